/-! sound states stay sound: what is read, and each operation -/
/-- nodes of a directory stand in order -/
def OrdF (F : List FT) : Prop := ∀ i j, 0 < i → i < j → j < F.length → fa_ (gF F i) = fa_ (gF F j) → lx (idb (fn_ (gF F i)) (fd_ (gF F i))) (idb (fn_ (gF F j)) (fd_ (gF F j))) = true
section
variable {n : Nat} {t : TT} {S : AS} {B St : Nat → Nat}
theorem scan_ok {d L0 : Nat} {D : FT} (hdd : fd_ D = 1) : ∀ (j : Nat) (F : List FT) (p rc : Nat) (F' : List FT), scan n B St d D j F p rc = .inr F' → FOK n F → OrdF F → d < F.length → gF F d = D → L0 ≤ F.length → (∀ i, 0 < i → i < L0 → fa_ (gF F i) < d) → (∀ i, L0 ≤ i → i < F.length → fa_ (gF F i) = d) → (rc ≤ 2 → F.length = L0) → 1 ≤ L0 → FOK n F' ∧ OrdF F' ∧ (∀ i, 0 < i → i < F'.length → fa_ (gF F' i) ≤ d)
  | 0, F, p, rc, F', h, _, _, _, _, _, _, _, _, _ => by unfold scan at h; cases h
  | j + 1, F, p, rc, F', h, h1, h2, h3, h4, h5, h6, h7, h8, h9 => by
    unfold scan at h
    rcases ic_or h with ⟨-, h⟩ | ⟨-, h⟩
    · rcases ic_or h with ⟨-, h⟩ | ⟨-, h⟩
      · exact scan_ok hdd j _ _ _ _ h h1 h2 h3 h4 h5 h6 h7 h8 h9
      · rcases ic_or h with ⟨hr, h⟩ | ⟨-, h⟩
        · rcases ic_or h with ⟨hrc, h⟩ | ⟨hrc, h⟩
          · rcases ic_or h with ⟨-, h⟩ | ⟨-, h⟩
            · exact scan_ok hdd j _ _ _ _ h h1 h2 h3 h4 h5 h6 h7 (fun _ => h8 (by omega)) h9
            · cases h
          · rcases ic_or h with ⟨hnew, h⟩ | ⟨-, h⟩
            · rw [if_neg hrc] at hr
              obtain ⟨ho, hnm⟩ := rec_mk (d := d) (F := F) hr
              obtain ⟨f, hf⟩ : ∃ f, f = mkF B d F (2048 * fx_ D + p) := ⟨_, rfl⟩
              rw [← hf] at h hnew ho hnm
              have fa : fa_ f = d := by rw [hf]; rfl
              have fp : fp_ f = fp_ (gF F d) + 1 := by rw [hf]; rfl
              have hl : F.length < 30 := by have := h1.1.2; have := hnew.1; omega
              have g1 := FOK_snoc h1 hl h3 (by rw [h4]; exact hdd) ho hnm fa fp (fun z => (hnew.2.2 z).1)
              have len : (F ++ [f]).length = F.length + 1 := by simp
              refine scan_ok hdd j _ _ _ _ h g1 ?_ (by rw [len]; omega) (by rw [gF_app h3]; exact h4) (by rw [len]; omega) (fun i a b => by rw [gF_app (by omega)]; exact h6 i a b) (fun i a b => ?_) (fun z => by omega) h9
              · intro i k i0 ik kl hp
                rw [len] at kl
                by_cases e : k < F.length
                · rw [gF_app e, gF_app (by omega)] at hp ⊢
                  exact h2 i k i0 ik e hp
                · have ek : k = F.length := by omega
                  subst ek
                  rw [gF_new, gF_app ik] at hp ⊢
                  rw [fa] at hp
                  have hi : L0 ≤ i := by
                    rcases Nat.lt_or_ge i L0 with y | y
                    · have := h6 i i0 y; omega
                    · exact y
                  have rc2 : 2 < rc := by
                    rcases Nat.lt_or_ge 2 rc with y | y
                    · exact y
                    · have := h8 y; omega
                  have hlast := hnew.2.1 rc2
                  by_cases e2 : i = F.length - 1
                  · rw [e2]; exact hlast
                  · exact lx_tr (h2 i (F.length - 1) i0 (by omega) (by omega) (by rw [hp, h7 _ (by omega) (by omega)])) hlast
              · rw [len] at b
                by_cases e : i < F.length
                · rw [gF_app e]; exact h7 i a e
                · rw [show i = F.length by omega, gF_new]; exact fa
            · cases h
        · cases h
    · rcases ic_or h with ⟨-, h⟩ | ⟨-, h⟩
      · cases h
        refine ⟨h1, h2, fun i i0 il => ?_⟩
        rcases Nat.lt_or_ge i L0 with y | y
        · have := h6 i i0 y; omega
        · rw [h7 i y il]; exact Nat.le_refl _
      · cases h
theorem dirs_ok : ∀ (j : Nat) (F : List FT) (d : Nat) (F' : List FT), dirsR n B St j F d = .inr F' → FOK n F → OrdF F → (∀ i, 0 < i → i < F.length → fa_ (gF F i) < d ∨ d = 0 ∧ F.length = 1) → FOK n F' ∧ OrdF F'
  | 0, F, d, F', h, _, _, _ => by unfold dirsR at h; cases h
  | j + 1, F, d, F', h, h1, h2, h3 => by
    have h3' : ∀ i, 0 < i → i < F.length → fa_ (gF F i) < d := fun i a b => by
      rcases h3 i a b with y | y
      · exact y
      · omega
    unfold dirsR at h
    rcases ic_or h with ⟨hd, h⟩ | ⟨-, h⟩
    · rcases ic_or h with ⟨hdd, h⟩ | ⟨-, h⟩
      · cases hs : scan n B St d (gF F d) 500000 F 0 0 with
        | inl w => rw [hs] at h; cases h
        | inr F2 =>
          rw [hs] at h
          obtain ⟨g1, g2, g3⟩ := scan_ok (L0 := F.length) hdd _ _ _ _ _ hs h1 h2 hd rfl (Nat.le_refl _) h3' (fun i a b => by omega) (fun _ => rfl) h1.1.1
          exact dirs_ok j _ _ _ h g1 g2 (fun i a b => Or.inl (by have := g3 i a b; omega))
      · exact dirs_ok j _ _ _ h h1 h2 (fun i a b => Or.inl (by have := h3' i a b; omega))
    · cases h; exact ⟨h1, h2⟩
theorem rd_ok {b : Nat} {F : List FT} (h : rd n B St b = .inr F) : FOK n F ∧ OrdF F := by
  have key : ∀ (j s : Nat), rdW n B St b j s = .inr F → rdH n B St b = .inr F := by
    intro j
    induction j with
    | zero => intro s h; exact h
    | succ j ih =>
      intro s h
      unfold rdW ck at h
      rcases ic_or h with ⟨-, h⟩ | ⟨-, h⟩
      · exact ih _ h
      · cases h
  have h := key _ _ h
  unfold rdH ck at h
  rcases ic_or h with ⟨-, h⟩ | ⟨-, h⟩ <;> try cases h
  rcases ic_or h with ⟨-, h⟩ | ⟨-, h⟩ <;> try cases h
  rcases ic_or h with ⟨-, h⟩ | ⟨-, h⟩ <;> try cases h
  rcases ic_or h with ⟨-, h⟩ | ⟨-, h⟩ <;> try cases h
  rcases ic_or h with ⟨-, h⟩ | ⟨-, h⟩ <;> try cases h
  rcases ic_or h with ⟨-, h⟩ | ⟨-, h⟩ <;> try cases h
  rcases ic_or h with ⟨hr, h⟩ | ⟨-, h⟩ <;> try cases h
  unfold rdD at h
  cases hd : dirsR n B St 31 [rtF B (2048 * (b + 16) + 156)] 0 with
  | inl w => rw [hd] at h; cases h
  | inr F2 =>
    rw [hd] at h
    have e : F2 = F := by
      have h : rdT B b F2 = .inr F := h
      unfold rdT at h
      split at h
      · cases h
      · split at h
        · cases h
        · unfold ck at h
          rcases ic_or h with ⟨-, h⟩ | ⟨-, h⟩
          · cases h; rfl
          · cases h
    subst e
    exact dirs_ok _ _ _ _ hd (FOK1 hr) (fun i j a b c => by simp at c; omega) (fun i a b => by simp at b; omega)
theorem treeOf_ok {F : List FT} (hF : FOK n F) (hO : OrdF F) (hn : n ≤ 200) : TOK n (treeOf F) := by
  obtain ⟨⟨l1, l30⟩, b, ⟨r1, r2, r3, r4⟩, c⟩ := hF
  have lt : ∀ k, tT (treeOf F) k = true → k < F.length := fun k h => of_decide_eq_true h
  refine ⟨⟨l1, by show F.length ≤ 600; omega, by rw [tL_of, List.length_range]; exact l30⟩, ⟨decide_eq_true l1, r1, r2, r3, ?_, ?_, ?_⟩, ⟨fun k => fp_ (gF F k), r4, fun k k0 kN kT => ?_⟩, fun k k0 kN kT => ?_, fun i j i0 iN iT j0 jN jT hne hp => ?_⟩
  · show (if fd_ (gF F 0) = 1 then 0 else _) = 0; rw [if_pos r1]
  · show (if fd_ (gF F 0) = 1 then 0 else _) = 0; rw [if_pos r1]
  · show (if fd_ (gF F 0) = 1 then 0 else _) = 0; rw [if_pos r1]
  · have hk := lt k kT
    obtain ⟨c1, c2, c3, c4, c5⟩ := c k k0 hk
    show fa_ (gF F k) < F.length ∧ decide (fa_ (gF F k) < F.length) = true ∧ fd_ (gF F (fa_ (gF F k))) = 1 ∧ fp_ (gF F k) = fp_ (gF F (fa_ (gF F k))) + 1 ∧ fp_ (gF F k) ≤ 7 ∧ (fd_ (gF F k) = 1 → fp_ (gF F k) ≤ 6)
    exact ⟨by omega, decide_eq_true (by omega), c3, c4, (b k hk).2, c5⟩
  · have hk := lt k kT
    obtain ⟨c1, c2, c3, c4, c5⟩ := c k k0 hk
    obtain ⟨o1, o2, o3, o4, o5, o6, o7⟩ := (b k hk).1
    obtain ⟨s1, s2, s3⟩ := FO_sz (b k hk).1 hn
    show fd_ (gF F k) ≤ 1 ∧ NM (fn_ (gF F k)) ∧ (fd_ (gF F k) = 1 → (if fd_ (gF F k) = 1 then 0 else fs_ (gF F k)) = 0 ∧ (if fd_ (gF F k) = 1 then 0 else 4294967295) = 0 ∧ (if fd_ (gF F k) = 1 then 0 else fx_ (gF F k)) = 0) ∧ (if fd_ (gF F k) = 1 then 0 else fs_ (gF F k)) ≤ 409600 ∧ (if fd_ (gF F k) = 1 then 0 else fx_ (gF F k)) ≤ 200 ∧ ((if fd_ (gF F k) = 1 then 0 else 4294967295) ≤ 255 ∨ (if fd_ (gF F k) = 1 then 0 else 4294967295) = 4294967295) ∧ ((if fd_ (gF F k) = 1 then 0 else fs_ (gF F k)) = 0 → (if fd_ (gF F k) = 1 then 0 else fx_ (gF F k)) = 0) ∧ (fd_ (gF F k) = 0 → decide (fd_ (gF F k) ≠ 1) = true → (if fd_ (gF F k) = 1 then 0 else fx_ (gF F k)) + ((if fd_ (gF F k) = 1 then 0 else fs_ (gF F k)) + 2047) / 2048 ≤ n) ∧ (fd_ (gF F k) = 0 → decide (fd_ (gF F k) ≠ 1) = false → (if fd_ (gF F k) = 1 then 0 else fs_ (gF F k)) ≤ 6000 ∧ (if fd_ (gF F k) = 1 then 0 else 4294967295) ≤ 255 ∧ (if fd_ (gF F k) = 1 then 0 else fx_ (gF F k)) = 0)
    by_cases e : fd_ (gF F k) = 1
    · rw [if_pos e, if_pos e, if_pos e]
      exact ⟨o1, c1, fun _ => ⟨rfl, rfl, rfl⟩, by omega, by omega, Or.inl (by omega), fun _ => rfl, fun z => by omega, fun z => by omega⟩
    · rw [if_neg e, if_neg e, if_neg e]
      exact ⟨o1, c1, fun z => absurd z e, s1, s2, Or.inr rfl, o4, fun _ _ => o5, fun _ z => absurd e (of_decide_eq_false z)⟩
  · have hi := lt i iT
    have hj := lt j jT
    have hp' : fa_ (gF F i) = fa_ (gF F j) := hp
    show idb (fn_ (gF F i)) (fd_ (gF F i)) ≠ idb (fn_ (gF F j)) (fd_ (gF F j))
    intro e
    rcases Nat.lt_or_ge i j with y | y
    · have := hO i j i0 y hj hp'
      rw [e, lx_irr] at this; cases this
    · have := hO j i j0 (by omega) hi hp'.symm
      rw [e, lx_irr] at this; cases this
theorem root_ok : TOK n (treeOf [rootF]) := by
  refine ⟨⟨by decide, by decide, by rw [tL_of]; decide⟩, ⟨rfl, rfl, rfl, rfl, rfl, rfl, rfl⟩, ⟨fun _ => 0, rfl, fun k k0 kN => ?_⟩, fun k k0 kN => ?_, fun i j i0 iN => ?_⟩
  · have : k < 1 := kN; omega
  · have : k < 1 := kN; omega
  · have : i < 1 := iN; omega
theorem cmF_w0 {Df : Nat → Bool} {B : Nat → Nat} {all : Bool} : ∀ (l : List Nat) (t : TT) (b : BS), tD t 0 = 1 → tW (cmF n Df B all l t b).2.1 0 = tW t 0
  | [], t, b, _ => rfl
  | k :: l, t, b, h => by
    unfold cmF
    split
    · exact cmF_w0 l t b h
    · rename_i hk
      split
      · refine (cmF_w0 l (tLay t k _) _ h).trans ?_
        show upA (tW t) k true 0 = _
        rw [upA_n (fun e => hk (Or.inl (by rw [← e]; exact h)))]
      · rfl
theorem cmA_ok (ok : TOK n t) {Df : Nat → Bool} {Bo : Nat → Nat} (hB : ∀ q, Bo q < 256) {all : Bool} {num : Nat} {b : BS} (hm : Med n (bB b) (bSt b)) : TOK n (cmA n Df Bo all t num b).2.1 ∧ Med n (bB (cmA n Df Bo all t num b).2.2) (bSt (cmA n Df Bo all t num b).2.2) ∧ tW (cmA n Df Bo all t num b).2.1 0 = tW t 0 ∧ tN (cmA n Df Bo all t num b).2.1 = tN t := by
  obtain ⟨a1, a2, a3, a4, a5⟩ := cmF_ok (Df := Df) hB (all := all) (tL t) t b ok (fun k hk => mem_tL.mp hk) hm
  have w := cmF_w0 (n := n) (Df := Df) (B := Bo) (all := all) (tL t) t b ok.2.1.2.1
  unfold cmA
  split
  · refine ⟨a1, ?_, w, a2.1⟩
    have := (sesB_ok (Df := Df) (num := num) a1 201 (cmF n Df Bo all (tL t) t b).2.2 a3).1
    rw [dirT_same a2] at this
    exact this
  · exact ⟨a1, a3, w, a2.1⟩
/-- what holds after i calls -/
def INV (i : Nat) (S : AS) : Prop := AOK S ∧ tW (sT S) 0 = false ∧ tN (sT S) ≤ 40 + i ∧ sLa S ≤ 2147483647 + i
theorem INV.up {i j : Nat} (h : INV i S) (hij : i ≤ j) : INV j S := ⟨h.1, h.2.1, by have := h.2.2.1; omega, by have := h.2.2.2; omega⟩
theorem I_0 (x : Int32) : INV 0 (S0 x) := by
  have hb := nOf_b x
  exact ⟨⟨⟨hb.1, hb.2, fun _ => (by decide : 0 < 256), fun _ => (by decide : 0 < 3)⟩, root_ok, (by decide : 0 < 2 ^ 32), (by decide : 0 ≤ 30), fun k hk => absurd hk (by show ¬ k < 0; omega)⟩, rfl, (by decide : 1 ≤ 40 + 0), (by decide : 0 ≤ 2147483647 + 0)⟩
variable {i : Nat}
theorem I_defect (h : INV i S) (x : Int32) : INV i (opDefect S x).2 := by
  unfold opDefect
  split
  · exact h
  · exact h
theorem I_power (h : INV i S) (x : Int32) : INV i (opPower S x) := h
theorem I_spoil (h : INV i S) (x v : Int32) : INV i (opSpoil S x v).2 := by
  obtain ⟨⟨a1, a2⟩, b⟩ := id h
  unfold opSpoil
  split
  · split
    · refine ⟨⟨⟨a1.1, a1.2.1, fun q => ?_, a1.2.2.2⟩, a2⟩, b⟩
      rename_i p _ _
      show upA (sB S) p (byt v) q < 256
      by_cases e : q = p
      · rw [e, upA_e]; exact Nat.mod_lt _ (by decide)
      · rw [upA_n e]; exact a1.2.2.1 q
    · exact h
  · exact h
theorem okF_ok {r : Sum Nat (List FT)} (h : ∀ F, r = .inr F → FOK n F) : (okF r).length ≤ 30 ∧ ∀ k, k < (okF r).length → FO n (gF (okF r) k) := by
  cases r with
  | inl w => exact ⟨Nat.zero_le _, fun k hk => absurd hk (by show ¬ k < 0; omega)⟩
  | inr F =>
    have := h F rfl
    exact ⟨this.1.2, fun k hk => (this.2.1 k hk).1⟩
theorem I_open (h : INV i S) (x : Int32) : INV i (opOpen S x).2 := by
  obtain ⟨⟨a1, a2, a3, a4, a5⟩, b⟩ := id h
  unfold opOpen
  split
  · obtain ⟨g1, g2⟩ := okF_ok (n := sN S) (r := sRd S ((sM S).getD _ 0)) (fun F e => (rd_ok e).1)
    exact ⟨⟨a1, a2, a3, g1, g2⟩, b⟩
  · exact h
theorem I_add (h : INV i S) (hi : i < 500) {x : Int32} {a dir size seed : Nat} {right : Prop} (hdir : dir ≤ 1) (h1 : dir = 1 → size = 0 ∧ seed = 0) (hsz : size ≤ 6000) (hse : seed ≤ 255) : INV (i + 1) (opAdd S x a dir size seed right).2 := by
  obtain ⟨⟨a1, a2, a3, a4, a5⟩, b1, b2', b3⟩ := id h
  cases lo : sLo S with
  | true => rw [opAdd_L lo]; exact h.up (by omega)
  | false =>
    rcases nodeOf_cases a2 x with ⟨d, hd, _, en⟩ | ⟨_, en⟩
    · by_cases hc : hinC S d dir (told a) right
      · rw [opAdd_2 lo en hc]; exact h.up (by omega)
      · by_cases hn : nmd (sT S) d (told a) 0
        · rw [opAdd_5 lo en hc hn]; exact h.up (by omega)
        · by_cases hl : (tL (sT S)).length = 30
          · rw [opAdd_3 lo en hc hn hl]; exact h.up (by omega)
          · rw [opAdd_0 lo en hc hn hl]
            have hdd : tD (sT S) d = 1 := Classical.not_not.mp (fun z => hc (Or.inr (Or.inl z)))
            have hne : told a ≠ [] := fun z => hc (Or.inr (Or.inr (Or.inl z)))
            have hnm : NM (told a) := (told_ok a).resolve_left hne
            refine ⟨⟨a1, tAdd_ok a2 hd hdd hnm hdir (fun z => ⟨(h1 z).1, (h1 z).2, fun y => hc (Or.inr (Or.inr (Or.inr ⟨z, y⟩)))⟩) hsz hse hn (by have := a2.1.2.2; omega) (by omega), a3, a4, a5⟩, ?_, by show tN (sT S) + 1 ≤ _; omega, by show sLa S ≤ _; omega⟩
            show upA (tW (sT S)) (tN (sT S)) false 0 = false
            rw [upA_n (by have := a2.1.1; omega)]; exact b1
    · rw [opAdd_n lo en]; exact h.up (by omega)
theorem I_dir (h : INV i S) (hi : i < 500) (x : Int32) (a : Nat) : INV (i + 1) (opDir S x a).2 := I_add h hi (by decide) (fun _ => ⟨rfl, rfl⟩) (by decide) (by decide)
theorem cont_b {x y : Int32} {i j : Nat} (h : cont x y = some (i, j)) : i ≤ 6000 ∧ j ≤ 255 := by
  unfold cont at h
  rcases ix_cases x (n := 6001) (by decide) with ⟨a, h1, h2, h3⟩ | ⟨h1, h2⟩
  · rw [h3] at h
    rcases ix_cases y (n := 256) (by decide) with ⟨b, g1, g2, g3⟩ | ⟨g1, g2⟩
    · rw [g3] at h
      simp at h
      omega
    · rw [g2] at h; cases h
  · rw [h2] at h; cases h
theorem I_file (h : INV i S) (hi : i < 500) (x : Int32) (a : Nat) (y z : Int32) : INV (i + 1) (opFile S x a y z).2 := by
  unfold opFile
  cases hc : cont y z with
  | none => exact I_add h hi (by decide) (fun w => absurd w (by decide)) (by decide) (by decide)
  | some p =>
    obtain ⟨u, w⟩ := p
    have := cont_b hc
    exact I_add h hi (by decide) (fun w => absurd w (by decide)) this.1 this.2
theorem I_replace (h : INV i S) (x y z : Int32) : INV i (opReplace S x y z).2 := by
  obtain ⟨⟨a1, a2, a3, a4, a5⟩, b1, b2', b3⟩ := id h
  unfold opReplace
  split
  · exact h
  · rcases nodeOf_cases a2 x with ⟨k, hk, _, en⟩ | ⟨_, en⟩
    · rw [en]
      by_cases hd : tD (sT S) k = 1
      · simp only [if_pos hd]; exact h
      · simp only [if_neg hd]
        have dd := root_D a2 (mem_tL.mp hk).1 (mem_tL.mp hk).2
        cases hc : cont y z with
        | none => exact h
        | some p =>
          obtain ⟨u, w⟩ := p
          have := cont_b hc
          refine ⟨⟨a1, tRep_ok a2 hk (by omega) this.1 this.2, a3, a4, a5⟩, ?_, b2', b3⟩
          show upA (tW (sT S)) k false 0 = false
          by_cases e : 0 = k
          · rw [e, upA_e]
          · rw [upA_n e]; exact b1
    · rw [en]; exact h
theorem I_remove (h : INV i S) (x : Int32) : INV i (opRemove S x).2 := by
  obtain ⟨⟨a1, a2, a3, a4, a5⟩, b1, b2', b3⟩ := id h
  unfold opRemove
  split
  · exact h
  · rcases nodeOf_cases a2 x with ⟨k, hk, _, en⟩ | ⟨_, en⟩
    · rw [en]
      by_cases hc : k = 0 ∨ ∃ q ∈ tL (sT S), 0 < q ∧ tP (sT S) q = k
      · simp only [ic_t hc]; exact h
      · simp only [ic_f hc]
        exact ⟨⟨a1, tRem_ok a2 (fun z => hc (Or.inl z)) (fun z => hc (Or.inr z)), a3, a4, a5⟩, b1, b2', b3⟩
    · rw [en]; exact h
theorem I_rename (h : INV i S) (x y : Int32) (a : Nat) : INV i (opRename S x y a).2 := by
  obtain ⟨⟨a1, a2, a3, a4, a5⟩, b1, b2', b3⟩ := id h
  unfold opRename
  split
  · exact h
  · rcases nodeOf_cases a2 x with ⟨k, hk, _, en⟩ | ⟨_, en⟩
    · rcases nodeOf_cases a2 y with ⟨d, hd, _, ed⟩ | ⟨_, ed⟩
      · rw [en, ed]
        by_cases hc : k = 0 ∨ tD (sT S) d ≠ 1 ∨ told a = [] ∨ lies (sT S) d k
        · simp only [ic_t hc]; exact h
        · simp only [ic_f hc]
          by_cases hh : ∃ q ∈ tL (sT S), 0 < q ∧ tD (sT S) q = 1 ∧ lies (sT S) q k ∧ 6 + dep (sT S) k < dep (sT S) q + dep (sT S) d + 1
          · simp only [ic_t hh]; exact h
          · simp only [ic_f hh]
            by_cases hn : nmd (sT S) d (told a) k
            · simp only [ic_t hn]; exact h
            · simp only [ic_f hn]
              have hdd : tD (sT S) d = 1 := Classical.not_not.mp (fun z => hc (Or.inr (Or.inl z)))
              have hne : told a ≠ [] := fun z => hc (Or.inr (Or.inr (Or.inl z)))
              exact ⟨⟨a1, tRen_ok a2 hk (fun z => hc (Or.inl z)) hd hdd ((told_ok a).resolve_left hne) (fun z => hc (Or.inr (Or.inr (Or.inr z)))) hh hn, a3, a4, a5⟩, b1, b2', b3⟩
      · rw [en, ed]; exact h
    · rw [en]; exact h
theorem I_commit (h : INV i S) (hi : i < 500) : INV (i + 1) (opCommit S).2 := by
  obtain ⟨⟨a1, a2, a3, a4, a5⟩, b1, b2', b3⟩ := id h
  unfold opCommit
  split
  · exact h.up (by omega)
  · obtain ⟨c1, c2, c3, c4⟩ := cmA_ok (Df := sDf S) (all := false) (num := inc32 (sLa S)) a2 a1.2.2.1 (b := (sB S, sSt S, sLf S, sWr S, false)) a1
    refine ⟨⟨c2, c1, ?_, a4, a5⟩, c3.trans b1, ?_, ?_⟩
    · show (if _ = 0 then inc32 (sLa S) else sLa S) < 2 ^ 32
      unfold inc32
      split <;> omega
    · show tN (cmA _ _ _ _ _ _ _).2.1 ≤ _
      rw [c4]; omega
    · show (if _ = 0 then inc32 (sLa S) else sLa S) ≤ _
      unfold inc32
      split <;> omega
theorem dsc_ok : ∀ (l : List Nat) (c : Nat) (b : Option (Nat × List FT)), (∀ p F, b = some (p, F) → FOK (sN S) F ∧ OrdF F ∧ isMk (sN S) (sB S) (sSt S) p) → (∀ p ∈ l, isMk (sN S) (sB S) (sSt S) p) → ∀ p F, (dsc S l c b).2 = some (p, F) → FOK (sN S) F ∧ OrdF F ∧ isMk (sN S) (sB S) (sSt S) p
  | [], c, b, hb, _, p, F, h => hb p F h
  | s :: l, c, b, hb, hl, p, F, h => by
    unfold dsc at h
    cases hs : sRd S s with
    | inl w =>
      rw [hs] at h
      exact dsc_ok l c b hb (fun p hp => hl p (List.mem_cons_of_mem _ hp)) p F h
    | inr F2 =>
      rw [hs] at h
      refine dsc_ok l (c + 1) (some (s, F2)) (fun p F e => ?_) (fun p hp => hl p (List.mem_cons_of_mem _ hp)) p F h
      cases e
      exact ⟨(rd_ok hs).1, (rd_ok hs).2, hl s (List.mem_cons_self ..)⟩
theorem I_discover (h : INV i S) : INV i (opDiscover S).2 := by
  obtain ⟨⟨a1, a2, a3, a4, a5⟩, b1, b2', b3⟩ := id h
  unfold opDiscover
  have key := dsc_ok (S := S) (sM S) 0 none (fun p F e => by cases e) (fun p hp => (mkR_mem (hp : p ∈ mkR (sN S) (sB S) (sSt S) (sN S) 0)).1)
  cases hd : (dsc S (sM S) 0 none).2 with
  | none => exact ⟨⟨a1, root_ok, (by decide : 0 < 2 ^ 32), a4, a5⟩, rfl, (by show 1 ≤ 40 + i; omega), (by show 0 ≤ 2147483647 + i; omega)⟩
  | some pF =>
    obtain ⟨p, F⟩ := pF
    obtain ⟨k1, k2, k3⟩ := key p F hd
    have l31 := k3.2.2.2.2.2.2.2
    refine ⟨⟨a1, treeOf_ok k1 k2 a1.2.1, (by show lowN (sB S) (2048 * p + 8) 4 < 2 ^ 32; omega), a4, a5⟩, ?_, (by show F.length ≤ 40 + i; have := k1.1.2; omega), (by show lowN (sB S) (2048 * p + 8) 4 ≤ _; omega)⟩
    show decide (fd_ (gF F 0) ≠ 1) = false
    have := k1.2.2.1.1
    simp [this]
theorem I_compact (h : INV i S) : INV i (opCompact S).2 := by
  obtain ⟨⟨a1, a2, a3, a4, a5⟩, b1, b2', b3⟩ := id h
  unfold opCompact
  split
  · exact h
  · obtain ⟨c1, c2, c3, c4⟩ := cmA_ok (Df := fun _ => false) (Bo := sB S) (all := true) (num := 1) a2 a1.2.2.1 (b := (fun _ => 0, fun _ => 0, sLf S, sWr S, false)) ⟨a1.1, a1.2.1, fun _ => (by decide : 0 < 256), fun _ => (by decide : 0 < 3)⟩
    split
    · refine ⟨⟨c2, c1, (by decide : 1 < 2 ^ 32), (by decide : 0 ≤ 30), fun k hk => absurd hk (by show ¬ k < 0; omega)⟩, c3.trans b1, ?_, (by show 1 ≤ 2147483647 + i; omega)⟩
      show tN (cpA S).2.1 ≤ _
      unfold cpA
      rw [c4]; exact b2'
    · exact h
theorem INV.la (h : INV i S) (hi : i < 500) : inc32 (sLa S) ≠ 4294967293 ∧ inc32 (sLa S) ≠ 4294967292 := by
  have := h.2.2.2
  unfold inc32
  omega
end
