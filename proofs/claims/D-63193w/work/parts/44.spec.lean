/-! THE DESCRIPTION, in plain numbers: names, found nodes, how a session is read -/
noncomputable def ic {α : Type} (c : Prop) (a b : α) : α := @ite α c (Classical.propDecidable c) a b
theorem ic_t {α : Type} {c : Prop} {a b : α} (h : c) : ic c a b = a := by unfold ic; exact if_pos h
theorem ic_f {α : Type} {c : Prop} {a b : α} (h : ¬ c) : ic c a b = b := by unfold ic; exact if_neg h
/-- letters as a word -/
def wd (l : List Nat) : Nat := l.foldl (fun a c => a * 256 + c) 0
theorem wd_snoc (l : List Nat) (c : Nat) : wd (l ++ [c]) = wd l * 256 + c := by simp [wd]
theorem wd_nil : wd [] = 0 := rfl
theorem wd_aux : ∀ (l : List Nat) (a : Nat), l.foldl (fun a c => a * 256 + c) a = a * 256 ^ l.length + l.foldl (fun a c => a * 256 + c) 0
  | [], a => by simp
  | c :: l, a => by
    simp only [List.foldl_cons, List.length_cons]
    rw [wd_aux l (a * 256 + c), wd_aux l (0 * 256 + c), Nat.pow_succ, Nat.add_mul, Nat.add_mul]
    rw [Nat.mul_assoc a 256, Nat.mul_comm 256]
    omega
theorem wd_cons (c : Nat) (l : List Nat) : wd (c :: l) = c * 256 ^ l.length + wd l := by
  unfold wd
  rw [List.foldl_cons, wd_aux]
  simp
theorem wd_lt : ∀ (l : List Nat), (∀ c ∈ l, c < 256) → wd l < 256 ^ l.length
  | [], _ => by simp [wd]
  | c :: l, h => by
    have h1 := wd_lt l (fun x hx => h x (List.mem_cons_of_mem _ hx))
    have h2 : c < 256 := h c (List.mem_cons_self ..)
    rw [wd_cons, List.length_cons, Nat.pow_succ]
    have h3 : (c + 1) * 256 ^ l.length ≤ 256 * 256 ^ l.length := Nat.mul_le_mul_right _ (by omega)
    rw [Nat.add_mul, Nat.one_mul] at h3
    rw [Nat.mul_comm (256 ^ l.length)]
    omega
theorem wd_ge : ∀ (l : List Nat), (∀ c ∈ l, 0 < c) → l ≠ [] → 256 ^ (l.length - 1) ≤ wd l
  | [], _, h => absurd rfl h
  | c :: l, h, _ => by
    have h2 : 0 < c := h c (List.mem_cons_self ..)
    rw [wd_cons]
    simp only [List.length_cons, Nat.add_sub_cancel]
    have := Nat.mul_le_mul_right (256 ^ l.length) h2
    omega
/-- a letter of a word -/
theorem wd_dig : ∀ (l : List Nat) (i : Nat), (∀ c ∈ l, c < 256) → i < l.length → wd l / 256 ^ (l.length - 1 - i) % 256 = l.getD i 0
  | [], _, _, h => absurd h (by simp)
  | c :: l, 0, h, _ => by
    have h1 := wd_lt l (fun x hx => h x (List.mem_cons_of_mem _ hx))
    have h2 : c < 256 := h c (List.mem_cons_self ..)
    rw [wd_cons]
    simp only [List.length_cons, Nat.add_sub_cancel, Nat.sub_zero, List.getD_cons_zero]
    rw [Nat.add_comm, Nat.add_mul_div_right _ _ (Nat.pow_pos (by decide)), Nat.div_eq_of_lt h1]
    omega
  | c :: l, i + 1, h, hi => by
    have hi' : i < l.length := by simpa using hi
    have ih := wd_dig l i (fun x hx => h x (List.mem_cons_of_mem _ hx)) hi'
    rw [wd_cons]
    have e : (c :: l).length - 1 - (i + 1) = l.length - 1 - i := by simp; omega
    rw [e, List.getD_cons_succ, ← ih]
    have e2 : 256 ^ l.length = 256 ^ (l.length - 1 - i) * (256 ^ i * 256) := by
      rw [← Nat.pow_succ, ← Nat.pow_add]
      congr 1
      omega
    rw [e2, Nat.mul_left_comm, Nat.add_comm, Nat.add_mul_div_left _ _ (Nat.pow_pos (by decide)), ← Nat.mul_assoc]
    omega
theorem wd_inj : ∀ (l r : List Nat), (∀ c ∈ l, 0 < c ∧ c < 256) → (∀ c ∈ r, 0 < c ∧ c < 256) → wd l = wd r → l = r := by
  intro l r hl hr h
  have key : ∀ (l r : List Nat), (∀ c ∈ l, 0 < c ∧ c < 256) → (∀ c ∈ r, 0 < c ∧ c < 256) → wd l = wd r → l.length < r.length → False := by
    intro l r hl hr h hlt
    have h1 := wd_lt l (fun c hc => (hl c hc).2)
    have h2 := wd_ge r (fun c hc => (hr c hc).1) (by intro e; rw [e] at hlt; simp at hlt)
    have h3 : 256 ^ l.length ≤ 256 ^ (r.length - 1) := Nat.pow_le_pow_right (by decide) (by omega)
    omega
  have hlen : l.length = r.length := by
    rcases Nat.lt_trichotomy l.length r.length with a | a | a
    · exact (key l r hl hr h a).elim
    · exact a
    · exact (key r l hr hl h.symm a).elim
  apply List.ext_getElem hlen
  intro i h1 h2
  have d1 := wd_dig l i (fun c hc => (hl c hc).2) h1
  have d2 := wd_dig r i (fun c hc => (hr c hc).2) h2
  rw [h, hlen] at d1
  rw [d1] at d2
  simpa [List.getD_eq_getElem?_getD, h1, h2] using d2
/-- a name: letters, eight at most -/
def NM (l : List Nat) : Prop := 1 ≤ l.length ∧ l.length ≤ 8 ∧ ∀ c ∈ l, isL c
theorem isL_b {c : Nat} (h : isL c) : 48 ≤ c ∧ c ≤ 95 := by unfold isL at h; omega
theorem NM_b {l : List Nat} (h : NM l) : ∀ c ∈ l, 0 < c ∧ c < 256 := fun c hc => by have := isL_b (h.2.2 c hc); omega
theorem wd64 {l : List Nat} (h1 : l.length ≤ 8) (h : ∀ c ∈ l, c < 256) : wd l < 2 ^ 64 := by
  have := wd_lt l h
  have h3 : 256 ^ l.length ≤ 256 ^ 8 := Nat.pow_le_pow_right (by decide) h1
  omega
/-- the bytes of a name's identifier (d = 1: a directory's) -/
def idb (l : List Nat) (d : Nat) : List Nat := if d = 1 then l else l ++ [46, 59, 49]
/-- which comes first -/
def lx : List Nat → List Nat → Bool
  | [], [] => false
  | [], _ :: _ => true
  | _ :: _, [] => false
  | a :: l, b :: r => if a = b then lx l r else decide (a < b)
theorem lx_irr : ∀ l : List Nat, lx l l = false
  | [] => rfl
  | a :: l => by simp [lx, lx_irr l]
theorem lx_tr : ∀ {a b c : List Nat}, lx a b = true → lx b c = true → lx a c = true
  | [], [], _, h, _ => by simp [lx] at h
  | [], _ :: _, [], _, h => by simp [lx] at h
  | [], _ :: _, _ :: _, _, _ => rfl
  | _ :: _, [], _, h, _ => by simp [lx] at h
  | _ :: _, _ :: _, [], _, h => by simp [lx] at h
  | x :: a, y :: b, z :: c, h1, h2 => by
    simp only [lx] at h1 h2 ⊢
    by_cases e1 : x = y
    · by_cases e2 : y = z
      · rw [if_pos e1] at h1; rw [if_pos e2] at h2; rw [if_pos (e1.trans e2)]
        exact lx_tr h1 h2
      · rw [if_neg e2] at h2
        rw [if_neg (by omega)]
        simp at h2 ⊢; omega
    · rw [if_neg e1] at h1
      by_cases e2 : y = z
      · rw [if_neg (by omega)]; simp at h1 ⊢; omega
      · rw [if_neg e2] at h2
        simp at h1 h2
        rw [if_neg (by omega)]; simp; omega
theorem lx_tot : ∀ (a b : List Nat), lx a b = true ∨ a = b ∨ lx b a = true
  | [], [] => Or.inr (Or.inl rfl)
  | [], _ :: _ => Or.inl rfl
  | _ :: _, [] => Or.inr (Or.inr rfl)
  | x :: a, y :: b => by
    simp only [lx]
    by_cases e : x = y
    · subst e
      simp only [if_pos]
      rcases lx_tot a b with h | h | h
      · exact Or.inl h
      · exact Or.inr (Or.inl (by rw [h]))
      · exact Or.inr (Or.inr h)
    · rw [if_neg e, if_neg (fun q => e q.symm)]
      simp; omega
theorem lx_asym {a b : List Nat} (h : lx a b = true) : lx b a = false := by
  cases e : lx b a with
  | false => rfl
  | true => have := lx_tr h e; rw [lx_irr] at this; cases this
/-- a found node: above (2 ^ 32 - 1: none), directory, size, sector, name, depth -/
abbrev FT : Type := Nat × Nat × Nat × Nat × List Nat × Nat
def fa_ (f : FT) : Nat := f.1
def fd_ (f : FT) : Nat := f.2.1
def fs_ (f : FT) : Nat := f.2.2.1
def fx_ (f : FT) : Nat := f.2.2.2.1
def fn_ (f : FT) : List Nat := f.2.2.2.2.1
def fp_ (f : FT) : Nat := f.2.2.2.2.2
def f0_ : FT := (0, 0, 0, 0, [], 0)
def gF (F : List FT) (i : Nat) : FT := F.getD i f0_
theorem gF_app {F G : List FT} {i : Nat} (h : i < F.length) : gF (F ++ G) i = gF F i := by
  unfold gF
  simp [List.getD_eq_getElem?_getD, List.getElem?_append_left h]
theorem gF_new {F : List FT} {f : FT} : gF (F ++ [f]) F.length = f := by
  unfold gF
  simp [List.getD_eq_getElem?_getD]
/-- bytes as a list -/
def ltA (B : Nat → Nat) (q k : Nat) : List Nat := (List.range k).map (fun i => B (q + i))
theorem ltA_len (B : Nat → Nat) (q k : Nat) : (ltA B q k).length = k := by simp [ltA]
theorem ltA_succ (B : Nat → Nat) (q k : Nat) : ltA B q (k + 1) = ltA B q k ++ [B (q + k)] := by simp [ltA, List.range_succ]
theorem ltA_mem {B : Nat → Nat} {q k c : Nat} (h : c ∈ ltA B q k) : ∃ i, i < k ∧ c = B (q + i) := by
  unfold ltA at h
  obtain ⟨i, h1, h2⟩ := List.mem_map.mp h
  exact ⟨i, List.mem_range.mp h1, h2.symm⟩
/-- what a record says of its node -/
def mkF (B : Nat → Nat) (d : Nat) (F : List FT) (r : Nat) : FT := (d, if B (r + 25) = 2 then 1 else 0, lowN B (r + 10) 4, lowN B (r + 2) 4, ltA B (r + 33) (if B (r + 25) = 2 then B (r + 32) else B (r + 32) - 3), fp_ (gF F d) + 1)
def rtF (B : Nat → Nat) (r : Nat) : FT := (4294967295, if B (r + 25) = 2 then 1 else 0, lowN B (r + 10) 4, lowN B (r + 2) 4, [], 0)
def lapF (f g : FT) : Prop := fx_ f < fx_ g + fs_ g / 2048 ∧ fx_ g < fx_ f + fs_ f / 2048
def newOK (F : List FT) (rc : Nat) (f : FT) : Prop := F.length ≠ 30 ∧ (2 < rc → lx (idb (fn_ (gF F (F.length - 1))) (fd_ (gF F (F.length - 1)))) (idb (fn_ f) (fd_ f)) = true) ∧ (fd_ f = 1 → fp_ f ≤ 6 ∧ ∀ q, q < F.length → fd_ (gF F q) = 1 → ¬ lapF f (gF F q))
def sameOK (B : Nat → Nat) (r : Nat) (o : FT) : Prop := lowN B (r + 2) 4 = fx_ o ∧ lowN B (r + 10) 4 = fs_ o
noncomputable def scan (n : Nat) (B St : Nat → Nat) (d : Nat) (D : FT) : Nat → List FT → Nat → Nat → Sum Nat (List FT)
  | 0, _, _, _ => .inl 0
  | j + 1, F, p, rc => ic (p < fs_ D)
      (ic (B (2048 * fx_ D + p) = 0) (scan n B St d D j F (p - p % 2048 + 2048) rc)
        (ic (recOK n B St (2048 * fx_ D + p) (if rc < 2 then rc else 2))
          (ic (rc < 2)
            (ic (sameOK B (2048 * fx_ D + p) (if rc = 0 ∨ d = 0 then D else gF F (fa_ D))) (scan n B St d D j F (p + B (2048 * fx_ D + p)) (rc + 1)) (.inl (2048 * fx_ D + p)))
            (ic (newOK F rc (mkF B d F (2048 * fx_ D + p))) (scan n B St d D j (F ++ [mkF B d F (2048 * fx_ D + p)]) (p + B (2048 * fx_ D + p)) (rc + 1)) (.inl (2048 * fx_ D + p))))
          (.inl (2048 * fx_ D + p))))
      (ic (1 < rc) (.inr F) (.inl (2048 * fx_ D)))
noncomputable def dirsR (n : Nat) (B St : Nat → Nat) : Nat → List FT → Nat → Sum Nat (List FT)
  | 0, _, _ => .inl 0
  | j + 1, F, d => ic (d < F.length)
      (ic (fd_ (gF F d) = 1) (match scan n B St d (gF F d) 500000 F 0 0 with
        | .inl w => .inl w
        | .inr F' => dirsR n B St j F' (d + 1)) (dirsR n B St j F (d + 1)))
      (.inr F)
def lowB (n v : Nat) : List Nat := (List.range n).map (fun i => v / 256 ^ i % 256)
def highB (n v : Nat) : List Nat := (List.range n).map (fun i => v / 256 ^ (n - 1 - i) % 256)
def ndir (F : List FT) : Nat := (F.filter (fun f => fd_ f == 1)).length
def upN (F : List FT) (k : Nat) : Nat := if k = 0 then 1 else ndir (F.take (fa_ (gF F k) + 1))
def ptE (lo : Bool) (l : List Nat) (x up : Nat) : List Nat := [l.length, 0] ++ ((if lo then lowB 4 x else highB 4 x) ++ ((if lo then lowB 2 up else highB 2 up) ++ (l ++ (if l.length % 2 = 1 then [0] else []))))
/-- a path table's bytes, from node k on, j nodes -/
def ptab (F : List FT) (lo : Bool) : Nat → Nat → List Nat
  | _, 0 => []
  | k, j + 1 => (if fd_ (gF F k) = 1 then ptE lo (if k = 0 then [0] else fn_ (gF F k)) (fx_ (gF F k)) (upN F k) else []) ++ ptab F lo (k + 1) j
def mism (B : Nat → Nat) : Nat → List Nat → Option Nat
  | _, [] => none
  | p, c :: r => if B p = c then mism B (p + 1) r else some p
theorem mism_app (B : Nat → Nat) : ∀ (l r : List Nat) (p : Nat), mism B p (l ++ r) = (match mism B p l with | some w => some w | none => mism B (p + l.length) r)
  | [], r, p => by simp [mism]
  | c :: l, r, p => by
    simp only [List.cons_append, mism, List.length_cons]
    by_cases h : B p = c
    · rw [if_pos h, if_pos h, mism_app B l r (p + 1), show p + 1 + l.length = p + (l.length + 1) by omega]
    · rw [if_neg h, if_neg h]
noncomputable def ck (c : Prop) (w : Nat) (r : Sum Nat (List FT)) : Sum Nat (List FT) := ic c r (.inl w)
def wrS (n : Nat) (St : Nat → Nat) (s : Nat) : Prop := s < n ∧ St s = 1
def hdOK (B : Nat → Nat) (p s : Nat) : Prop := B p = s ∧ B (p + 1) = 67 ∧ B (p + 2) = 68 ∧ B (p + 3) = 48 ∧ B (p + 4) = 48 ∧ B (p + 5) = 49 ∧ B (p + 6) = 1
/-- the path tables are compared -/
noncomputable def rdT (B : Nat → Nat) (b : Nat) (F : List FT) : Sum Nat (List FT) := match mism B (2048 * (b + 18)) (ptab F true 0 F.length) with
  | some w => .inl w
  | none => match mism B (2048 * (b + 19)) (ptab F false 0 F.length) with
    | some w => .inl w
    | none => ck ((ptab F false 0 F.length).length = lowN B (2048 * (b + 16) + 132) 4) (2048 * (b + 16) + 132) (.inr F)
noncomputable def rdD (n : Nat) (B St : Nat → Nat) (b : Nat) : Sum Nat (List FT) := match dirsR n B St 31 [rtF B (2048 * (b + 16) + 156)] 0 with
  | .inl w => .inl w
  | .inr F => rdT B b F
noncomputable def rdH (n : Nat) (B St : Nat → Nat) (b : Nat) : Sum Nat (List FT) :=
  ck (hdOK B (2048 * (b + 16)) 1) (2048 * (b + 16)) <| ck (hdOK B (2048 * (b + 17)) 255) (2048 * (b + 17)) <|
  ck (lowN B (2048 * (b + 16) + 128) 2 = 2048 ∧ highN B (2048 * (b + 16) + 130) 2 = 2048) (2048 * (b + 16) + 128) <|
  ck (lowN B (2048 * (b + 16) + 132) 4 = highN B (2048 * (b + 16) + 136) 4 ∧ lowN B (2048 * (b + 16) + 132) 4 ≤ 2048) (2048 * (b + 16) + 132) <|
  ck (lowN B (2048 * (b + 16) + 140) 4 = b + 18) (2048 * (b + 16) + 140) <| ck (highN B (2048 * (b + 16) + 148) 4 = b + 19) (2048 * (b + 16) + 148) <|
  ck (recOK n B St (2048 * (b + 16) + 156) 0) (2048 * (b + 16) + 156) <| rdD n B St b
/-- the first sector of a row that isn't written -/
noncomputable def rdW (n : Nat) (B St : Nat → Nat) (b : Nat) : Nat → Nat → Sum Nat (List FT)
  | 0, _ => rdH n B St b
  | j + 1, s => ck (wrS n St s) (2048 * s) (rdW n B St b j (s + 1))
/-- what is read of a session at a base: the place that is wrong, or its nodes -/
noncomputable def rd (n : Nat) (B St : Nat → Nat) (b : Nat) : Sum Nat (List FT) := rdW n B St b 4 (b + 16)
/-- its answer -/
def rdA (r : Sum Nat (List FT)) : Int32 := match r with
  | .inl w => -1 - nI w
  | .inr F => nI F.length
def isMk (n : Nat) (B St : Nat → Nat) (s : Nat) : Prop := wrS n St s ∧ B (2048 * s) = 77 ∧ B (2048 * s + 1) = 65 ∧ B (2048 * s + 2) = 82 ∧ B (2048 * s + 3) = 75 ∧ lowN B (2048 * s + 4) 4 < s ∧ 0 < lowN B (2048 * s + 8) 4 ∧ lowN B (2048 * s + 8) 4 < 2 ^ 31
/-- the marks of j sectors from s on -/
noncomputable def mkR (n : Nat) (B St : Nat → Nat) : Nat → Nat → List Nat
  | 0, _ => []
  | j + 1, s => ic (isMk n B St s) (s :: mkR n B St j (s + 1)) (mkR n B St j (s + 1))
noncomputable def mks (n : Nat) (B St : Nat → Nat) : List Nat := mkR n B St n 0
