/-! the burner: records -/
/-- the burner's environment with its table laid out for a base -/
def BG (D : Nat) (σ0 σ : Hp) (x n md od q : Nat) (t : TT) (rf : Nat → Nat) (c ct : Nat) (f : Nat → Nat) (b : BS) (Df : Nat → Bool) (Bo : Nat → Nat) (P : Nat → Prop) (base : Nat) : Prop :=
  BF D σ0 σ x n md od q t rf c ((dirT t).map rf) ct f b Df Bo P ∧ SCn σ rf (dirT t) (base + 20)
section
variable {S : Prop} {W : Nat → Prop} {D n : Nat} {σ0 σ σ' τ : Hp} {x md od q : Nat} {t : TT} {rf : Nat → Nat} {c : Nat} {ct : Nat} {f : Nat → Nat} {b : BS} {Df : Nat → Bool} {Bo : Nat → Nat} {P : Nat → Prop} {base : Nat}
theorem BG.ok (G : BG D σ0 σ x n md od q t rf c ct f b Df Bo P base) : TOK n t := G.1.1.2.2.2.2.2.2.2.2.2.2.1
theorem BG.wf (G : BG D σ0 σ x n md od q t rf c ct f b Df Bo P base) : WF D σ := G.1.1.1
theorem BG.bur (G : BG D σ0 σ x n md od q t rf c ct f b Df Bo P base) : BuA σ x md od q := G.1.1.2.2.1
theorem BG.page (G : BG D σ0 σ x n md od q t rf c ct f b Df Bo P base) : PgA D σ (x + 4) (x + 5) f := G.1.1.2.2.2.2.1
theorem BG.med (G : BG D σ0 σ x n md od q t rf c ct f b Df Bo P base) : MdA D σ md n (bB b) (bSt b) Df := G.1.1.2.2.2.2.2.1
theorem BG.tr (G : BG D σ0 σ x n md od q t rf c ct f b Df Bo P base) : TrA D σ q t rf c := G.1.1.2.2.2.2.2.2.2.1
theorem BG.tbl (G : BG D σ0 σ x n md od q t rf c ct f b Df Bo P base) : Lst σ 6 (x + 3) ((dirT t).map rf) ct := G.1.1.2.2.2.2.2.2.2.2.2.1.1
theorem BG.dn (G : BG D σ0 σ x n md od q t rf c ct f b Df Bo P base) : D < nx_ σ := G.1.1.2.2.2.2.2.2.2.2.2.2.2
theorem BG.dt (G : BG D σ0 σ x n md od q t rf c ct f b Df Bo P base) {k : Nat} (hk : k ∈ dirT t) : k ∈ tL t := mem_tL.mpr (dirT_mem G.ok hk).1
theorem BG.nx (G : BG D σ0 σ x n md od q t rf c ct f b Df Bo P base) {k : Nat} (hk : k ∈ tL t) : rf k < nx_ σ := G.wf.lt (G.tr.2.2.2 k hk).1
theorem BG.made (G : BG D σ0 σ x n md od q t rf c ct f b Df Bo P base) (hf' : WF D τ) (k : Kp False (fun _ => False) σ τ) : BG D σ0 τ x n md od q t rf c ct f b Df Bo P base :=
  ⟨G.1.made hf' k, G.2.kp k (fun i hi => ⟨G.nx (G.dt hi), fun z => z⟩)⟩
theorem BG.bu (G : BG D σ0 σ x n md od q t rf c ct f b Df Bo P base) {i j : Nat} : BG D σ0 (bu_ σ i j) x n md od q t rf c ct f b Df Bo P base := G
theorem BG.pg {g : Nat → Nat} (G : BG D σ0 σ x n md od q t rf c ct f b Df Bo P base) (k : AF (x + 5) σ τ) (h : PgA D τ (x + 4) (x + 5) g) : BG D σ0 τ x n md od q t rf c ct g b Df Bo P base :=
  ⟨G.1.pg k h, fun j hj => by rw [k.2.1]; exact G.2 j hj⟩
theorem BG.ext {g : Nat → Nat} (G : BG D σ0 σ x n md od q t rf c ct f b Df Bo P base) (e : f = g) : BG D σ0 σ x n md od q t rf c ct g b Df Bo P base := by rw [← e]; exact G
theorem BG.sc (G : BG D σ0 σ x n md od q t rf c ct f b Df Bo P base) {k : Nat} (hk : k ∈ dirT t) : fI_ σ 5 9 (rf k) = nI (base + 20 + plc (dirT t) k) ∧ fI_ σ 5 10 (rf k) = nI 1 ∧ fI_ σ 5 11 (rf k) = nI (plc (dirT t) k + 1) := by
  obtain ⟨j, h1, h2⟩ := mem_getD hk
  have hp := dirT_plc G.ok h1
  rw [h2] at hp
  have := G.2 j h1
  rw [h2] at this
  rw [hp]; exact this
theorem c_writesG (G : BG D σ0 σ x n md od q t rf c ct f b Df Bo P base) (hlo : bLo b = false) {s : Nat} (hs : s < n) (hg : ∀ i, f i < 256) {post : Int32 → Hp → Prop}
    (k : ∀ σ', BG D σ0 σ' x n md od q t rf c ct f (burn1 Df s f b).2 Df Bo P base → bc_ σ' = bc_ σ → bs_ σ' = bs_ σ → post (if (burn1 Df s f b).1 = 0 then 1 else 0) σ') : wX3_writes (x + 2) (nI s) (x + 5) 0 σ post := by
  have hm := G.1.md2
  have hx := G.1.1.2.1
  have htz := G.1.1.2.2.2.2.2.2.2.2.1.2.2.2
  unfold dz at htz
  exact c_writes G.1.1 hlo hs hg (fun σ' E' k' h1 h2 h3 => k σ' ⟨⟨E', G.1.2.step (k'.mono (fun z => z.elim) (fun _ _ z => z)) (by
    rintro r (e | e | e)
    · exact Or.inl (by omega)
    · exact Or.inr (Or.inl e)
    · exact Or.inr (Or.inr (Or.inl e))) (by rintro (e | e | e) <;> omega)⟩, G.2.kp k' (fun i hi => ⟨G.nx (G.dt hi), by have := htz i (G.dt hi); rintro (e | e | e) <;> omega⟩)⟩ h2 h3)
theorem lowB_1 {v : Nat} (h : v < 256) : lowB 1 v = [v] := by
  unfold lowB
  simp [List.range_succ]; omega
theorem c_record (G : BG D σ0 σ x n md od q t rf c ct f b Df Bo P base) (hbase : base ≤ 200) {p k r : Nat} {id : List Nat} (hs : Str D σ r id) (hid : id.length ≤ 11) (hk : k ∈ tL t) (hkd : tD t k = 1 → k ∈ dirT t) (hp : p + 44 ≤ 2048) (hz : ∀ i, p ≤ i → i < p + ev (33 + id.length) → f i = 0) {post : Hp → Prop}
    (kk : ∀ σ', AF (x + 5) σ σ' → BG D σ0 σ' x n md od q t rf c ct (ov f p (recP id (rSec t (dirT t) base k) (rSiz t k) (rFlg t k))) b Df Bo P base → post σ') : wX3_record (x + 2) (x + 4) (nI p) (rf k) r σ post := by
  have ok := G.ok
  have hd := root_D ok (mem_tL.mp hk).1 (mem_tL.mp hk).2
  have l30 := dirT_len ok
  have hpl : tD t k = 1 → plc (dirT t) k < (dirT t).length := fun e => List.idxOf_lt_length_of_mem (hkd e)
  have hsz : tS t k ≤ 409600 ∧ tX t k ≤ 200 ∧ (tS t k = 0 → tX t k = 0) := by
    rcases Nat.eq_zero_or_pos k with e | e
    · rw [e, ok.2.1.2.2.2.2.1, ok.2.1.2.2.2.2.2.2]; omega
    · have := ok.2.2.2.1 k e (mem_tL.mp hk).1 (mem_tL.mp hk).2
      exact ⟨this.2.2.2.1, this.2.2.2.2.1, this.2.2.2.2.2.2.1⟩
  have hbs : rSec t (dirT t) base k < 2 ^ 32 := by
    unfold rSec
    split
    · rename_i e
      have := hpl e; omega
    · omega
  have hbz : rSiz t k < 2 ^ 32 := by unfold rSiz; split <;> omega
  have hev : ev (33 + id.length) < 256 := by unfold ev; omega
  have ws := G.page.ws G.wf
  unfold wX3_record
  refine c_recSize hs hid ⟨G.page.1, c_low G.page (n := 1) (by decide) (by omega) (by omega) (fun s1 a1 g1 => ?_)⟩
  rw [lowB_1 hev] at g1
  have G1 := G.pg a1 g1
  have nd1 := G1.tr.2.2.2 k hk
  -- flag and the rest
  have L97 : ∀ (s : Hp) (g : Nat → Nat), AF (x + 5) σ s → BG D σ0 s x n md od q t rf c ct g b Df Bo P base → (∀ s', AF (x + 5) σ s' → BG D σ0 s' x n md od q t rf c ct (ov (ov (ov (ov (ov g (p + 25) [rFlg t k]) (p + 28) (lowB 2 1)) (p + 30) (highB 2 1)) (p + 32) [id.length]) (p + 33) id) b Df Bo P base → post s') → wX3_record_L97 post (x + 4) (nI p) r (nI (rFlg t k)) 1 (nI (p + 25)) (x + 4) s := by
    intro s g as Gs ks
    have hfl : rFlg t k < 256 := by unfold rFlg; split <;> omega
    unfold wX3_record_L97
    refine ⟨Gs.page.1, c_low Gs.page (n := 1) (by decide) (by omega) (by omega) (fun s2 a2 g2 => ?_)⟩
    rw [lowB_1 hfl] at g2
    have G2 := Gs.pg a2 g2
    rw [li_28, nI_add]
    refine ⟨G2.page.1, c_bothP G2.page (n := 2) (v := 1) (by decide) (by omega) (by decide) (fun s3 a3 g3 => ?_)⟩
    rw [← ov_app (q := p + 30) (by rw [lowB_len])] at g3
    have G3 := G2.pg a3 g3
    have as3 := (as.trans a2).trans a3
    have hs3 : Str D s3 r id := hs.kp (S := False) G.wf as3.kp ws
    refine ⟨hs3.1, s_length hs3 ⟨G3.page.1, ?_⟩⟩
    rw [li_32, nI_add]
    refine c_low G3.page (n := 1) (by decide) (by omega) (by omega) (fun s4 a4 g4 => ?_)
    rw [lowB_1 (by omega)] at g4
    have G4 := G3.pg a4 g4
    have as4 := as3.trans a4
    rw [li_33, nI_add]
    refine ⟨G4.page.1, c_say G4.wf G4.page (hs.kp (S := False) G.wf as4.kp ws) (by omega) (fun s5 a5 g5 => ks s5 (as4.trans a5) (G4.pg a5 g5))⟩
  have L76 : ∀ (s : Hp) (g : Nat → Nat), AF (x + 5) σ s → BG D σ0 s x n md od q t rf c ct g b Df Bo P base → (∀ s', AF (x + 5) σ s' → BG D σ0 s' x n md od q t rf c ct (ov (ov (ov (ov (ov (ov (ov g (p + 10) (lowB 4 (rSiz t k))) (p + 14) (highB 4 (rSiz t k))) (p + 25) [rFlg t k]) (p + 28) (lowB 2 1)) (p + 30) (highB 2 1)) (p + 32) [id.length]) (p + 33) id) b Df Bo P base → post s') → wX3_record_L76 post (x + 4) (nI p) (rf k) r (nI (rSiz t k)) (nI 4) (nI (p + 10)) (x + 4) s := by
    intro s g as Gs ks
    unfold wX3_record_L76
    refine ⟨Gs.page.1, c_bothP Gs.page (n := 4) (by decide) (by omega) hbz (fun s2 a2 g2 => ?_)⟩
    rw [← ov_app (q := p + 14) (by rw [lowB_len])] at g2
    have G2 := Gs.pg a2 g2
    have nd2 := G2.tr.2.2.2 k hk
    have L := L97 s2 _ (as.trans a2) G2 ks
    rw [nd2.2.2.1, li_25, nI_add, li_0, nI_eq (by omega) (by decide)]
    unfold rFlg at L
    refine ⟨nd2.1, fun z => ?_, fun z => ?_⟩
    · rw [if_neg (by omega)] at L; exact L
    · rw [if_pos (by omega)] at L; exact L
  have L45 : wX3_record_L45 post (x + 4) (nI p) (rf k) r (nI (rSec t (dirT t) base k)) (nI 4) (nI (p + 2)) (x + 4) s1 := by
    unfold wX3_record_L45
    refine ⟨G1.page.1, c_bothP G1.page (n := 4) (by decide) (by omega) hbs (fun s2 a2 g2 => ?_)⟩
    rw [← ov_app (q := p + 6) (by rw [lowB_len])] at g2
    have G2 := G1.pg a2 g2
    have nd2 := G2.tr.2.2.2 k hk
    have L := L76 s2 _ (a1.trans a2) G2 (fun s' as' Gs' => kk s' as' (Gs'.ext (rec_ov hz)))
    rw [nd2.2.2.1, nd2.2.2.2.2.1, li_10, nI_add, li_0, nI_eq (by omega) (by decide)]
    unfold rSiz at L
    refine ⟨nd2.1, fun z => ?_, fun z => ?_⟩
    · rw [if_neg (by omega)] at L; exact L
    · rw [if_pos (by omega)] at L
      rw [(G2.sc (hkd (by omega))).2.1, li_2048, pk_mul]; exact L
  rw [nd1.2.2.1, nd1.2.2.2.2.1, nd1.2.2.2.2.2.2.1, li_2, nI_add, li_0, nI_eq (by omega) (by decide), nI_leI (by omega) (by decide)]
  unfold rSec at L45
  refine ⟨nd1.1, fun z => ?_, fun z => ?_⟩
  · rw [if_neg (by omega)] at L45
    refine ⟨fun z2 => ?_, fun z2 => L45⟩
    rw [hsz.2.2 (by omega)] at L45; exact L45
  · rw [if_pos (by omega)] at L45
    rw [(G1.sc (hkd (by omega))).1]; exact L45
end
