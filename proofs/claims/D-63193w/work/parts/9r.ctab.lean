/-! the reader compares the path tables -/
def numB (lo : Bool) (k a : Nat) : List Nat := if lo then lowB k a else highB k a
theorem numB_len {lo : Bool} {k a : Nat} : (numB lo k a).length = k := by unfold numB; cases lo <;> simp [lowB_len, highB_len]
theorem numB_at {lo : Bool} {k a i : Nat} (h : i < k) : (numB lo k a).getD i 0 = a / 256 ^ (if lo then i else k - 1 - i) % 256 := by
  unfold numB
  cases lo <;> simp [lowB, highB, List.getD_eq_getElem?_getD, h]
theorem numB_1 {lo : Bool} {a : Nat} (h : a < 256) : numB lo 1 a = [a] := by
  unfold numB
  cases lo <;> simp [lowB, highB, List.range_succ, Nat.mod_eq_of_lt h]
theorem mism_cons {B : Nat → Nat} {p c : Nat} {l : List Nat} : mism B p (c :: l) = if B p = c then mism B (p + 1) l else some p := rfl
section
variable {S : Prop} {W : Nat → Prop} {D n : Nat} {σ0 σ σ' τ υ : Hp} {r md p c q : Nat} {B St : Nat → Nat} {Df : Nat → Bool} {F : List FT} {f : FT}
theorem c_lettersOf {l : List Nat} (h1 : l.length ≤ 8) (h2 : ∀ c ∈ l, 0 < c ∧ c < 256) {post : Int32 → Prop} (k : post (nI l.length)) : wX8_lettersOf (lN (wd l)) σ post := m_lettersOf (σ := σ) h1 h2 k
theorem c_isNumber (hc : RdC σ r md) (hm : MdA D σ md n B St Df) {lo : Bool} {k a : Nat} (hk : k ≤ 4) (ha : a < 2 ^ 31) (hp : p + k ≤ 2048 * n) {post : Int32 → Hp → Prop}
    (k1 : mism B p (numB lo k a) = none → post 1 σ) (k0 : ∀ w σ', mism B p (numB lo k a) = some w → RF r σ σ' → fI_ σ' 7 8 r = nI w → post 0 σ') : wX8_isNumber r (lN p) (nI k) (nI a) (b2 lo) σ post := by
  have hB := hm.med.2.2.1
  have hn := hm.med.2.1
  obtain ⟨Z, hZ⟩ : ∃ Z, mism B p (numB lo k a) = Z := ⟨_, rfl⟩
  rw [hZ] at k1 k0
  unfold wX8_isNumber wX8_isNumber_L3
  refine lpG1 (B := fun R y => wX8_isNumber_B3 post R r (lN p) (nI k) (nI a) (b2 lo) y σ) (fun j y => ∃ i, i + j = k ∧ y = nI i ∧ mism B (p + i) ((numB lo k a).drop i) = Z) k ⟨0, by omega, rfl, by simpa using hZ⟩ ?_
  rintro j y R ⟨i, g1, rfl, g3⟩ hR
  unfold wX8_isNumber_B3
  rw [nI_leI (by omega) (by omega)]
  refine ⟨fun z => k1 ?_, fun z => ⟨hc.1, ?_⟩⟩
  · rw [List.drop_of_length_le (by rw [numB_len]; omega)] at g3
    exact g3.symm
  rw [hc.2.2.2.1, nI_l (by omega), lN_add]
  refine ⟨hm.tag, c_at hm (by omega) ?_⟩
  have hb := hB (p + i)
  rw [drop_cons (by rw [numB_len]; omega), numB_at (by omega), mism_cons] at g3
  have L41 : ∀ s0 : Int32, s0 = nI (if lo then i else k - 1 - i) → wX8_isNumber_L41 post R r (lN p) (nI k) (nI a) (b2 lo) (nI i) s0 8 (nI a) (nI (B (p + i))) σ := by
    intro s0 h0
    unfold wX8_isNumber_L41
    have hx : a / 256 ^ (if lo then i else k - 1 - i) % 256 < 256 := Nat.mod_lt _ (by decide)
    rw [h0, li_8, shb ha _ (by split <;> omega), nI_eq (by omega) (by omega), nI_l (by omega), lN_add]
    refine ⟨fun e y2 hy2 => hR (j - 1) y2 (by omega) ⟨i + 1, by omega, by rw [hy2, li_1, nI_add], ?_⟩, fun e => ⟨hc.1, c_bad hc (fun s' f' e' => ⟨rfl, k0 (p + i) s' ?_ f' e'⟩)⟩⟩
    · rw [if_pos e] at g3; exact g3
    · rw [if_neg e] at g3; exact g3.symm
  have e0 : b2 lo = 0 ↔ lo = false := b2_0
  rw [e0]
  refine ⟨fun z => L41 _ ?_, fun z => L41 _ ?_⟩
  · rw [z, li_1, pk_sub (by omega), pk_sub (by omega)]; rfl
  · have : lo = true := by cases lo <;> simp_all
    rw [this]; rfl
/-- the places of directories -/
def Pls (s : Hp) (r : Nat) (F : List FT) (k : Nat) : Prop := ∀ i, i < k → fd_ (gF F i) = 1 → aI_ s (r + 3) i = nI (ndir (F.take (i + 1)))
theorem Pls.rf {k : Nat} (h : Pls σ r F k) (f : RF q σ τ) : Pls τ r F k := fun i hi hd => by rw [f.2.2.2.1]; exact h i hi hd
theorem BR.wp (h : BR D σ0 σ r md n B St Df F c) {i : Nat} {v : Int32} : BR D σ0 (wI_ σ (r + 3) i v) r md n B St Df F c := by
  obtain ⟨⟨hf, hS, hm, hmr, hD⟩, fr⟩ := h
  obtain ⟨hc, hmd, hp, hl, la, fo, rr, len⟩ := id hS
  have k : Kp False (fun z => z = r + 3) σ (wI_ σ (r + 3) i v) := Kp.wI' Kp.refl (Or.inl rfl)
  refine ⟨⟨hf.wI (Or.inl (by rw [hp.1]; decide)), ⟨hc, hmd, hp, hl, la, fo, rr, len⟩, hm.kp hf k (by omega) (by omega) (by omega) (by omega), hmr, hD⟩, fr.step k (fun z _ e => Or.inl (by omega)) (Or.inl rfl) (fun _ _ => Or.inl rfl)⟩
variable {post : Int32 → Hp → Prop} {rc9 : Int32 → Int64 → Int32 → Hp → Prop}
/-- letters and padding -/
theorem c_tab163 (H : BR D σ0 σ r md n B St Df F c) (hok : FOK n F) {k p : Nat} {lo : Bool} (hk : k < F.length) {l : List Nat} (hl : l = if k = 0 then [0] else fn_ (gF F k)) (hp : p + 18 ≤ 2048 * n) {x8 : Nat} (hx8 : x8 = aR_ σ (r + 2) k) {x1 : Int64} {x4 : Int32}
    (K1 : ∀ σ', RF r σ σ' → mism B (p + 8) (l ++ (if l.length % 2 = 1 then [0] else [])) = none → ∀ y1 : Int32, y1 = nI (k + 1) → rc9 x4 (lN (p + 8 + l.length + l.length % 2)) y1 σ')
    (K0 : ∀ w σ', RF r σ σ' → mism B (p + 8) (l ++ (if l.length % 2 = 1 then [0] else [])) = some w → fI_ σ' 7 8 r = nI w → post 0 σ') : wX8_paths_L163 post rc9 r x1 (b2 lo) x4 (lN p) (nI k) x8 (nI l.length) 1 σ := by
  have hn := H.1.2.2.1.med.2.1
  have hlen := hok.1.2
  have hl8 : l.length ≤ 8 := by
    rw [hl]; split
    · simp
    · exact (hok.2.1 k hk).1.2.2.2.2.2.1
  have hlb : ∀ c ∈ l, c < 256 := by
    rw [hl]; split
    · simp
    · exact fun c hc => (FO_b (hok.2.1 k hk).1 c hc).2
  obtain ⟨Z, hZ⟩ : ∃ Z, mism B (p + 8) (l ++ (if l.length % 2 = 1 then [0] else [])) = Z := ⟨_, rfl⟩
  rw [hZ] at K1 K0
  unfold wX8_paths_L163 wX8_paths_L168
  refine lpG3 (B := fun R x10 x11 s => wX8_paths_B168 post rc9 R r x1 (b2 lo) x4 (lN p) (nI k) x8 (nI l.length) x10 x11 s) (fun j x10 x11 s => ∃ i, i + j = l.length ∧ x11 = nI i ∧ RF r σ s ∧ ((x10 = 1 ∧ mism B (p + 8 + i) (l.drop i ++ (if l.length % 2 = 1 then [0] else [])) = Z) ∨ (x10 = 0 ∧ ∃ w, Z = some w ∧ fI_ s 7 8 r = nI w))) l.length ⟨0, by omega, rfl, RF.refl, Or.inl ⟨rfl, by simpa using hZ⟩⟩ ?_
  rintro j x10 x11 s R ⟨i, g1, rfl, g3, g4⟩ hR
  have Hs := H.rf g3
  have hc := Hs.1.2.1.1
  have hm := Hs.1.2.2.1
  have L234 : (x10 = 1 → i = l.length) → wX8_paths_L234 post rc9 r x1 (b2 lo) x4 (lN p) (nI k) (nI l.length) x10 s := by
    intro hi
    unfold wX8_paths_L234
    refine ⟨fun z => ?_, fun z => ?_⟩
    · rcases g4 with ⟨v, _⟩ | ⟨_, w, v1, v2⟩
      · rw [v] at z; exact absurd z (by decide)
      · exact K0 w s g3 v1 v2
    · rcases g4 with ⟨v, v2⟩ | ⟨v, _⟩
      · have ei := hi v
        rw [ei, List.drop_length, List.nil_append] at v2
        have fin : ∀ s' : Hp, RF r σ s' → Z = none → wX8_paths_L269 post rc9 r x1 (b2 lo) x4 (lN p) (nI k) (nI l.length) s' := by
          intro s' f' hz y2 hy2 y1 hy1
          have ea : nI l.length &&& (1 : Int32) = nI (l.length % 2) := and1_ _ (by omega)
          rw [ea, li_8, nI_add, nI_add, nI_l (by omega), lN_add] at hy2
          have := K1 s' f' hz y1 (by rw [hy1, li_1, nI_add])
          rw [hy2, show p + (8 + l.length + l.length % 2) = p + 8 + l.length + l.length % 2 by omega]
          exact this
        have er : nI l.length - nI l.length / (2 : Int32) * (2 : Int32) = nI (l.length % 2) := by
          rw [li_2, pk_div (by omega) (by decide) (by decide), pk_mul, pk_sub (by omega)]
          congr 1; omega
        rw [er, li_1, nI_eq (by omega) (by decide)]
        refine ⟨fun u => fin s g3 ?_, fun u => ⟨hc.1, ?_⟩⟩
        · rw [if_neg u] at v2; exact v2.symm
        · rw [if_pos u] at v2
          rw [nI_l (by omega), show (8 : Int64) = lN 8 from rfl, lN_add, lN_add]
          refine c_isNumber (lo := lo) hc hm (k := 1) (a := 0) (by decide) (by decide) (by omega) (fun u2 => ⟨fun _ => fin s g3 ?_, fun w => absurd w (by decide)⟩) (fun w s' u2 f' e' => ⟨fun w => absurd rfl w, fun _ => K0 w s' (g3.trans f') ?_ e'⟩)
          · rw [numB_1 (by decide), v2] at u2; exact u2
          · rw [numB_1 (by decide), v2] at u2; exact u2
      · exact absurd v z
  unfold wX8_paths_B168
  rw [nI_leI (by omega) (by omega)]
  refine ⟨fun z => L234 (fun _ => by omega), fun z => ⟨fun w => L234 (fun v => by rw [v] at w; exact absurd w (by decide)), fun w => ?_⟩⟩
  have v2 : mism B (p + 8 + i) (l.drop i ++ (if l.length % 2 = 1 then [0] else [])) = Z := by
    rcases g4 with ⟨_, v⟩ | ⟨v, _⟩
    · exact v
    · exact absurd v w
  rw [drop_cons (by omega), List.cons_append, mism_cons] at v2
  have L222 : ∀ s0 : Int32, s0 = nI (l.getD i 0) → wX8_paths_L222 post rc9 R r x1 (b2 lo) x4 (lN p) (nI k) x8 (nI l.length) (nI i) s0 1 (lN p + (8 : Int64) + (nI i).toInt64) r s := by
    intro s0 h0
    have hc0 : l.getD i 0 < 256 := hlb _ (getD_mem (by omega))
    unfold wX8_paths_L222
    rw [h0, nI_l (by omega), show (8 : Int64) = lN 8 from rfl, lN_add, lN_add]
    refine ⟨hc.1, c_isNumber (lo := lo) hc hm (k := 1) (by decide) (by omega) (by omega) (fun u y12 hy12 => hR (j - 1) 1 y12 s (by omega) ⟨i + 1, by omega, by rw [hy12, li_1, nI_add], g3, Or.inl ⟨rfl, ?_⟩⟩) (fun w s' u f' e' y12 hy12 => hR (j - 1) 0 y12 s' (by omega) ⟨i + 1, by omega, by rw [hy12, li_1, nI_add], g3.trans f', Or.inr ⟨rfl, w, ?_, e'⟩⟩)⟩
    · rw [numB_1 hc0, mism_cons] at u
      by_cases e : B (p + 8 + i) = l.getD i 0
      · rw [if_pos e] at v2; exact v2
      · rw [if_neg e] at u; cases u
    · rw [numB_1 hc0, mism_cons] at u
      by_cases e : B (p + 8 + i) = l.getD i 0
      · rw [if_pos e] at u; cases u
      · rw [if_neg e] at u v2
        rw [← v2, u]
  rw [li_0, nI_eq (by omega) (by decide)]
  refine ⟨fun z => ?_, fun z => L222 _ ?_⟩
  · have fo := Hs.1.2.1.2.2.2.2.2.1 k hk
    have ex : x8 = aR_ s (r + 2) k := by rw [g3.2.2.2.2.2.1]; exact hx8
    rw [← ex] at fo
    refine ⟨fo.1, L222 _ ?_⟩
    rw [if_neg z] at hl
    rw [fo.2.2.2.2.2.2, li_8, li_1, pk_sub (by omega), pk_sub (by omega), pk_mul, ← hl, sar_dg (by omega)]
    unfold dg
    rw [wd_dig l i hlb (by omega)]
  · rw [if_pos z] at hl
    have hl1 : l.length = 1 := by rw [hl]; rfl
    have : i = 0 := by omega
    rw [hl, this]; rfl
theorem c_tab162 {k p x8 L : Nat} {x1 : Int64} {x3 x4 : Int32} (K0 : post 0 σ) : wX8_paths_L162 post rc9 r x1 x3 x4 (lN p) (nI k) x8 (nI L) σ := by
  unfold wX8_paths_L162 wX8_paths_L163 wX8_paths_L168
  refine lpG3 (B := fun R x10 x11 s => wX8_paths_B168 post rc9 R r x1 x3 x4 (lN p) (nI k) x8 (nI L) x10 x11 s) (fun j x10 x11 s => x10 = 0 ∧ s = σ) 0 ⟨rfl, rfl⟩ ?_
  rintro j x10 x11 s R ⟨rfl, rfl⟩ hR
  unfold wX8_paths_B168 wX8_paths_L234
  exact ⟨fun _ => ⟨fun _ => K0, fun w => absurd rfl w⟩, fun _ => ⟨fun _ => ⟨fun _ => K0, fun w => absurd rfl w⟩, fun w => absurd rfl w⟩⟩
theorem mism_split {p : Nat} {a b : List Nat} : (mism B p a = none → mism B p (a ++ b) = mism B (p + a.length) b) ∧ (∀ w, mism B p a = some w → mism B p (a ++ b) = some w) := by
  rw [mism_app]
  constructor
  · intro h; rw [h]
  · intro w h; rw [h]
/-- an entry -/
theorem c_tab75 (H : BR D σ0 σ r md n B St Df F c) (hok : FOK n F) {k p : Nat} {lo : Bool} (hk : k < F.length) (hdk : fd_ (gF F k) = 1) (hpl : Pls σ r F (k + 1)) {l : List Nat} (hl : l = if k = 0 then [0] else fn_ (gF F k)) (hp : p + 18 ≤ 2048 * n) {x8 : Nat} (hx8 : x8 = aR_ σ (r + 2) k) {x1 : Int64} {x4 : Int32}
    (K1 : ∀ σ', RF r σ σ' → mism B p (ptE lo l (fx_ (gF F k)) (upN F k)) = none → ∀ y1 : Int32, y1 = nI (k + 1) → rc9 x4 (lN (p + (ptE lo l (fx_ (gF F k)) (upN F k)).length)) y1 σ')
    (K0 : ∀ w σ', RF r σ σ' → mism B p (ptE lo l (fx_ (gF F k)) (upN F k)) = some w → fI_ σ' 7 8 r = nI w → post 0 σ') : wX8_paths_L75 post rc9 r x1 (b2 lo) x4 (lN p) (nI k) x8 (nI l.length) σ := by
  have hn := H.1.2.2.1.med.2.1
  have hlen := hok.1.2
  have hl8 : l.length ≤ 8 := by
    rw [hl]; split
    · simp
    · exact (hok.2.1 k hk).1.2.2.2.2.2.1
  have hxx := (FO_sz (hok.2.1 k hk).1 hn).2.1
  have hup : upN F k < 2 ^ 31 := by
    unfold upN
    split
    · decide
    · have := ndir_le (F.take (fa_ (gF F k) + 1))
      have := List.length_take_le (fa_ (gF F k) + 1) F
      have := List.length_take_le' (fa_ (gF F k) + 1) F
      omega
  obtain ⟨Z, hZ⟩ : ∃ Z, mism B p (ptE lo l (fx_ (gF F k)) (upN F k)) = Z := ⟨_, rfl⟩
  rw [hZ] at K1 K0
  rw [ptE_len] at K1
  have hE : ptE lo l (fx_ (gF F k)) (upN F k) = [l.length] ++ ([0] ++ (numB lo 4 (fx_ (gF F k)) ++ (numB lo 2 (upN F k) ++ (l ++ (if l.length % 2 = 1 then [0] else []))))) := by
    unfold ptE numB; cases lo <;> rfl
  rw [hE] at hZ
  have hc := H.1.2.1.1
  unfold wX8_paths_L75
  refine ⟨hc.1, c_isNumber (lo := lo) hc H.1.2.2.1 (k := 1) (a := l.length) (by decide) (by omega) (by omega) (fun u => ⟨fun w => absurd w (by decide), fun _ => ⟨hc.1, ?_⟩⟩) (fun w s' u f' e' => ⟨fun _ => c_tab162 (K0 w s' f' ?_ e'), fun w => absurd rfl w⟩)⟩
  rotate_left
  · rw [numB_1 (by omega)] at u; rw [← hZ]; exact mism_split.2 w u
  rw [numB_1 (by omega)] at u
  rw [mism_split.1 u] at hZ
  have e1 : p + [l.length].length = p + 1 := rfl
  rw [e1] at hZ
  rw [show (1 : Int64) = lN 1 from rfl, lN_add]
  refine c_isNumber (lo := lo) hc H.1.2.2.1 (k := 1) (a := 0) (by decide) (by decide) (by omega) (fun u2 => ⟨fun w => absurd w (by decide), fun _ => ?_⟩) (fun w s' u2 f' e' => ⟨fun _ => c_tab162 (K0 w s' f' ?_ e'), fun w => absurd rfl w⟩)
  rotate_left
  · rw [numB_1 (by decide)] at u2; rw [← hZ]; exact mism_split.2 w u2
  rw [numB_1 (by decide)] at u2
  rw [mism_split.1 u2] at hZ
  have fo := H.1.2.1.2.2.2.2.2.1 k hk
  rw [← hx8] at fo
  rw [fo.2.2.2.1, show (2 : Int64) = lN 2 from rfl, lN_add]
  refine ⟨fo.1, hc.1, c_isNumber (lo := lo) hc H.1.2.2.1 (k := 4) (by decide) (by omega) (by omega) (fun u3 => ⟨fun w => absurd w (by decide), fun _ => ?_⟩) (fun w s' u3 f' e' => ⟨fun _ => c_tab162 (K0 w s' f' ?_ e'), fun w => absurd rfl w⟩)⟩
  rotate_left
  · rw [← hZ]; exact mism_split.2 w u3
  have e2 : p + 1 + ([0] : List Nat).length = p + 2 := rfl
  rw [e2, mism_split.1 u3, numB_len] at hZ
  have L151 : wX8_paths_L151 post rc9 r x1 (b2 lo) x4 (lN p) (nI k) x8 (nI l.length) (nI (upN F k)) 2 (lN p + (6 : Int64)) r σ := by
    unfold wX8_paths_L151
    rw [show (6 : Int64) = lN 6 from rfl, lN_add]
    refine ⟨hc.1, c_isNumber (lo := lo) hc H.1.2.2.1 (k := 2) (by decide) hup (by omega) (fun u4 => ⟨fun w => absurd w (by decide), fun _ => ?_⟩) (fun w s' u4 f' e' => ⟨fun _ => c_tab162 (K0 w s' f' ?_ e'), fun w => absurd rfl w⟩)⟩
    rotate_left
    · rw [← hZ]; exact mism_split.2 w u4
    have e6 : p + 2 + 4 = p + 6 := rfl
    rw [e6, mism_split.1 u4, numB_len] at hZ
    have e8 : p + 6 + 2 = p + 8 := rfl
    rw [e8] at hZ
    refine c_tab163 H hok hk hl hp hx8 (fun s' f' hz y1 hy1 => ?_) (fun w s' f' hz e' => K0 w s' f' (by rw [← hZ]; exact hz) e')
    have := K1 s' f' (by rw [← hZ]; exact hz) y1 hy1
    rw [show p + (8 + l.length + l.length % 2) = p + 8 + l.length + l.length % 2 by omega] at this
    exact this
  rw [li_0, nI_eq (by omega) (by decide)]
  refine ⟨fun z => ?_, fun z => ?_⟩
  · have hS := H.1.2.1
    have hab := (hok.2.2.2 k (by omega) hk)
    rw [fo.2.1, hc.2.2.2.2, hS.2.2.1.2, nI_clamp (by omega)]
    refine ⟨hc.1, fo.1, hS.2.2.1.1, (vin_ (by omega)).mpr (by omega), ?_⟩
    rw [hpl _ (by omega) hab.2.2.1]
    have : upN F k = ndir (F.take (fa_ (gF F k) + 1)) := by unfold upN; rw [if_neg z]
    rw [← this]
    exact L151
  · have : upN F k = 1 := by unfold upN; rw [if_pos z]
    rw [this] at L151
    exact L151
theorem c_tabs (H : BR D σ0 σ r md n B St Df F c) (hok : FOK n F) {lo : Bool} (hp : p + 2048 ≤ 2048 * n)
    (k1 : ∀ σ', mism B p (ptab F lo 0 F.length) = none → BR D σ0 σ' r md n B St Df F c → fI_ σ' 7 10 r = nI (ptab F lo 0 F.length).length → post 1 σ')
    (k0 : ∀ w σ', mism B p (ptab F lo 0 F.length) = some w → BR D σ0 σ' r md n B St Df F c → fI_ σ' 7 8 r = nI w → post 0 σ') : wX8_paths r (lN p) (b2 lo) σ post := by
  have hn := H.1.2.2.1.med.2.1
  have hlen := hok.1.2
  obtain ⟨Z, hZ⟩ : ∃ Z, mism B p (ptab F lo 0 F.length) = Z := ⟨_, rfl⟩
  obtain ⟨T, hT⟩ : ∃ T, (ptab F lo 0 F.length).length = T := ⟨_, rfl⟩
  have hT2 := ptab_len hok lo F.length 0 (by omega)
  rw [hZ] at k1 k0
  rw [hT] at k1 hT2
  unfold wX8_paths wX8_paths_L9
  refine lpG4 (B := fun R x4 x5 x7 s => wX8_paths_B9 post R r (lN p) (b2 lo) x4 x5 x7 s) (fun j x4 x5 x7 s => ∃ k q, k + j = F.length ∧ x7 = nI k ∧ x5 = lN (p + q) ∧ x4 = nI (ndir (F.take k)) ∧ q + (ptab F lo k j).length = T ∧ mism B (p + q) (ptab F lo k j) = Z ∧ BR D σ0 s r md n B St Df F c ∧ Pls s r F k) F.length ⟨0, 0, by omega, rfl, rfl, rfl, by omega, hZ, H, fun i hi => by omega⟩ ?_
  rintro j x4 x5 x7 s R ⟨k, q, g1, rfl, rfl, rfl, g5, g6, g7, g8⟩ hR
  have hc := g7.1.2.1.1
  have hl := g7.1.2.1.2.2.2.1
  have hpl := g7.1.2.1.2.2.1
  unfold wX8_paths_B9 wX8_paths_L285
  rw [hc.2.1]
  refine ⟨hc.1, hl.1, l_size hl ?_⟩
  rw [rfs_len, nI_leI (by omega) (by omega)]
  refine ⟨fun z s43 e43 => ?_, fun z => l_get hl (by rw [rfs_len]; omega) (fun tg => ?_)⟩
  · have hj : j = 0 := by omega
    subst hj
    have g5' : q + 0 = T := g5
    have g6' : none = Z := g6
    refine k1 s43 g6'.symm (by rw [e43]; exact g7.rf RF.refl.sI) ?_
    rw [e43, afI_sI, u3_e, lN_sub (by omega), lN_i]
    congr 1; omega
  rw [rfs_get (by omega)] at tg ⊢
  obtain ⟨j, rfl⟩ : ∃ m, j = m + 1 := ⟨j - 1, by omega⟩
  have fo := g7.1.2.1.2.2.2.2.2.1 k (by omega)
  have ho := (hok.2.1 k (by omega)).1
  have hd1 := ho.1
  rw [ptab_succ] at g5 g6
  rw [fo.2.2.2.2.2.1, li_0, nI_eq (by omega) (by decide)]
  have nd := ndir_take (F := F) (q := k) (by omega)
  refine ⟨Or.inr tg, tg, fun z2 y48 h48 => ?_, fun z2 y1 hy1 => ?_⟩
  · have hd : fd_ (gF F k) = 1 := by omega
    rw [if_pos hd] at g5 g6 nd
    rw [hc.2.2.2.2, hpl.2]
    refine ⟨hpl.1, by have := g7.1.2.1.2.2.2.2.2.2.1; omega, (vin_ (by omega)).mpr (by omega), fun s52 e52 => ?_⟩
    rw [nI_clamp (by omega)] at e52
    have y48' : y48 = nI (ndir (F.take (k + 1))) := by rw [h48, li_1, nI_add, nd]
    have H52 : BR D σ0 s52 r md n B St Df F c := by rw [e52]; exact g7.wp
    have P52 : Pls s52 r F (k + 1) := by
      intro i hi hdi
      rw [e52, aaI_wI]
      by_cases e : i = k
      · rw [e, u2_e, y48']
      · rw [u2_i e]; exact g8 i (by omega) hdi
    have x52 : aR_ s (r + 2) k = aR_ s52 (r + 2) k := by rw [e52]; rfl
    rw [y48']
    obtain ⟨l, hlx⟩ : ∃ l, l = if k = 0 then [0] else fn_ (gF F k) := ⟨_, rfl⟩
    rw [← hlx] at g5 g6
    have hl8 : l.length ≤ 8 := by
      rw [hlx]; split
      · simp
      · exact ho.2.2.2.2.2.1
    have L75 : wX8_paths_L75 post R r (lN p) (b2 lo) (nI (ndir (F.take (k + 1)))) (lN (p + q)) (nI k) (aR_ s (r + 2) k) (nI l.length) s52 := by
      rw [List.length_append] at g5
      have pe := ptE_len lo l (fx_ (gF F k)) (upN F k)
      refine c_tab75 H52 hok (by omega) hd P52 hlx (by omega) x52 (fun s' f' hz y1 hy1 => hR j _ _ y1 s' (by omega) ⟨k + 1, q + (ptE lo l (fx_ (gF F k)) (upN F k)).length, by omega, hy1, by rw [Nat.add_assoc], rfl, by omega, ?_, H52.rf f', P52.rf f'⟩) (fun w s' f' hz e' => k0 w s' ?_ (H52.rf f') e')
      · rw [mism_split.1 hz] at g6
        rw [← Nat.add_assoc]; exact g6
      · rw [← g6]; exact mism_split.2 w hz
    rw [nI_eq (by omega) (by decide)]
    refine ⟨fun z3 => ?_, fun z3 => ?_⟩
    · rw [if_neg z3] at hlx
      have fl : fL_ s52 9 5 (aR_ s (r + 2) k) = lN (wd l) := by rw [e52, afL_wI, fo.2.2.2.2.2.2, hlx]
      rw [fl]
      exact c_lettersOf hl8 (by rw [hlx]; exact FO_b ho) L75
    · rw [if_pos z3] at hlx
      rw [hlx] at L75
      exact L75
  · rw [if_neg (by omega), List.nil_append] at g5 g6
    rw [if_neg (by omega), Nat.add_zero] at nd
    exact hR j _ _ y1 s (by omega) ⟨k + 1, q, by omega, by rw [hy1, li_1, nI_add], rfl, by rw [nd]; rfl, g5, g6, g7, fun i hi hdi => g8 i (by
      by_cases e : i = k
      · rw [e] at hdi; omega
      · omega) hdi⟩
end
