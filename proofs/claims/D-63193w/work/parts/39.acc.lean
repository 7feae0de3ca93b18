/-! the split heap: what each accessor gives behind each update (printed by gen/g4.py) -/
theorem atg_sI (σ : Hp) (c k r : Nat) (v : Int32) : tg_ (sI_ σ c k r v) = tg_ σ := rfl
theorem afI_sI (σ : Hp) (c k r : Nat) (v : Int32) : fI_ (sI_ σ c k r v) = u3_ (fI_ σ) c k r v := rfl
theorem afL_sI (σ : Hp) (c k r : Nat) (v : Int32) : fL_ (sI_ σ c k r v) = fL_ σ := rfl
theorem afR_sI (σ : Hp) (c k r : Nat) (v : Int32) : fR_ (sI_ σ c k r v) = fR_ σ := rfl
theorem aln_sI (σ : Hp) (c k r : Nat) (v : Int32) : ln_ (sI_ σ c k r v) = ln_ σ := rfl
theorem aaI_sI (σ : Hp) (c k r : Nat) (v : Int32) : aI_ (sI_ σ c k r v) = aI_ σ := rfl
theorem aaL_sI (σ : Hp) (c k r : Nat) (v : Int32) : aL_ (sI_ σ c k r v) = aL_ σ := rfl
theorem aaR_sI (σ : Hp) (c k r : Nat) (v : Int32) : aR_ (sI_ σ c k r v) = aR_ σ := rfl
theorem anx_sI (σ : Hp) (c k r : Nat) (v : Int32) : nx_ (sI_ σ c k r v) = nx_ σ := rfl
theorem abc_sI (σ : Hp) (c k r : Nat) (v : Int32) : bc_ (sI_ σ c k r v) = bc_ σ := rfl
theorem abs_sI (σ : Hp) (c k r : Nat) (v : Int32) : bs_ (sI_ σ c k r v) = bs_ σ := rfl
theorem alo_sI (σ : Hp) (c k r : Nat) (v : Int32) : lo_ (sI_ σ c k r v) = lo_ σ := rfl
theorem atg_sL (σ : Hp) (c k r : Nat) (v : Int64) : tg_ (sL_ σ c k r v) = tg_ σ := rfl
theorem afI_sL (σ : Hp) (c k r : Nat) (v : Int64) : fI_ (sL_ σ c k r v) = fI_ σ := rfl
theorem afL_sL (σ : Hp) (c k r : Nat) (v : Int64) : fL_ (sL_ σ c k r v) = u3_ (fL_ σ) c k r v := rfl
theorem afR_sL (σ : Hp) (c k r : Nat) (v : Int64) : fR_ (sL_ σ c k r v) = fR_ σ := rfl
theorem aln_sL (σ : Hp) (c k r : Nat) (v : Int64) : ln_ (sL_ σ c k r v) = ln_ σ := rfl
theorem aaI_sL (σ : Hp) (c k r : Nat) (v : Int64) : aI_ (sL_ σ c k r v) = aI_ σ := rfl
theorem aaL_sL (σ : Hp) (c k r : Nat) (v : Int64) : aL_ (sL_ σ c k r v) = aL_ σ := rfl
theorem aaR_sL (σ : Hp) (c k r : Nat) (v : Int64) : aR_ (sL_ σ c k r v) = aR_ σ := rfl
theorem anx_sL (σ : Hp) (c k r : Nat) (v : Int64) : nx_ (sL_ σ c k r v) = nx_ σ := rfl
theorem abc_sL (σ : Hp) (c k r : Nat) (v : Int64) : bc_ (sL_ σ c k r v) = bc_ σ := rfl
theorem abs_sL (σ : Hp) (c k r : Nat) (v : Int64) : bs_ (sL_ σ c k r v) = bs_ σ := rfl
theorem alo_sL (σ : Hp) (c k r : Nat) (v : Int64) : lo_ (sL_ σ c k r v) = lo_ σ := rfl
theorem atg_sR (σ : Hp) (c k r v : Nat) : tg_ (sR_ σ c k r v) = tg_ σ := rfl
theorem afI_sR (σ : Hp) (c k r v : Nat) : fI_ (sR_ σ c k r v) = fI_ σ := rfl
theorem afL_sR (σ : Hp) (c k r v : Nat) : fL_ (sR_ σ c k r v) = fL_ σ := rfl
theorem afR_sR (σ : Hp) (c k r v : Nat) : fR_ (sR_ σ c k r v) = u3_ (fR_ σ) c k r v := rfl
theorem aln_sR (σ : Hp) (c k r v : Nat) : ln_ (sR_ σ c k r v) = ln_ σ := rfl
theorem aaI_sR (σ : Hp) (c k r v : Nat) : aI_ (sR_ σ c k r v) = aI_ σ := rfl
theorem aaL_sR (σ : Hp) (c k r v : Nat) : aL_ (sR_ σ c k r v) = aL_ σ := rfl
theorem aaR_sR (σ : Hp) (c k r v : Nat) : aR_ (sR_ σ c k r v) = aR_ σ := rfl
theorem anx_sR (σ : Hp) (c k r v : Nat) : nx_ (sR_ σ c k r v) = nx_ σ := rfl
theorem abc_sR (σ : Hp) (c k r v : Nat) : bc_ (sR_ σ c k r v) = bc_ σ := rfl
theorem abs_sR (σ : Hp) (c k r v : Nat) : bs_ (sR_ σ c k r v) = bs_ σ := rfl
theorem alo_sR (σ : Hp) (c k r v : Nat) : lo_ (sR_ σ c k r v) = lo_ σ := rfl
theorem atg_wI (σ : Hp) (r i : Nat) (v : Int32) : tg_ (wI_ σ r i v) = tg_ σ := rfl
theorem afI_wI (σ : Hp) (r i : Nat) (v : Int32) : fI_ (wI_ σ r i v) = fI_ σ := rfl
theorem afL_wI (σ : Hp) (r i : Nat) (v : Int32) : fL_ (wI_ σ r i v) = fL_ σ := rfl
theorem afR_wI (σ : Hp) (r i : Nat) (v : Int32) : fR_ (wI_ σ r i v) = fR_ σ := rfl
theorem aln_wI (σ : Hp) (r i : Nat) (v : Int32) : ln_ (wI_ σ r i v) = ln_ σ := rfl
theorem aaI_wI (σ : Hp) (r i : Nat) (v : Int32) : aI_ (wI_ σ r i v) = u2_ (aI_ σ) r i v := rfl
theorem aaL_wI (σ : Hp) (r i : Nat) (v : Int32) : aL_ (wI_ σ r i v) = aL_ σ := rfl
theorem aaR_wI (σ : Hp) (r i : Nat) (v : Int32) : aR_ (wI_ σ r i v) = aR_ σ := rfl
theorem anx_wI (σ : Hp) (r i : Nat) (v : Int32) : nx_ (wI_ σ r i v) = nx_ σ := rfl
theorem abc_wI (σ : Hp) (r i : Nat) (v : Int32) : bc_ (wI_ σ r i v) = bc_ σ := rfl
theorem abs_wI (σ : Hp) (r i : Nat) (v : Int32) : bs_ (wI_ σ r i v) = bs_ σ := rfl
theorem alo_wI (σ : Hp) (r i : Nat) (v : Int32) : lo_ (wI_ σ r i v) = lo_ σ := rfl
theorem atg_wL (σ : Hp) (r i : Nat) (v : Int64) : tg_ (wL_ σ r i v) = tg_ σ := rfl
theorem afI_wL (σ : Hp) (r i : Nat) (v : Int64) : fI_ (wL_ σ r i v) = fI_ σ := rfl
theorem afL_wL (σ : Hp) (r i : Nat) (v : Int64) : fL_ (wL_ σ r i v) = fL_ σ := rfl
theorem afR_wL (σ : Hp) (r i : Nat) (v : Int64) : fR_ (wL_ σ r i v) = fR_ σ := rfl
theorem aln_wL (σ : Hp) (r i : Nat) (v : Int64) : ln_ (wL_ σ r i v) = ln_ σ := rfl
theorem aaI_wL (σ : Hp) (r i : Nat) (v : Int64) : aI_ (wL_ σ r i v) = aI_ σ := rfl
theorem aaL_wL (σ : Hp) (r i : Nat) (v : Int64) : aL_ (wL_ σ r i v) = u2_ (aL_ σ) r i v := rfl
theorem aaR_wL (σ : Hp) (r i : Nat) (v : Int64) : aR_ (wL_ σ r i v) = aR_ σ := rfl
theorem anx_wL (σ : Hp) (r i : Nat) (v : Int64) : nx_ (wL_ σ r i v) = nx_ σ := rfl
theorem abc_wL (σ : Hp) (r i : Nat) (v : Int64) : bc_ (wL_ σ r i v) = bc_ σ := rfl
theorem abs_wL (σ : Hp) (r i : Nat) (v : Int64) : bs_ (wL_ σ r i v) = bs_ σ := rfl
theorem alo_wL (σ : Hp) (r i : Nat) (v : Int64) : lo_ (wL_ σ r i v) = lo_ σ := rfl
theorem atg_wR (σ : Hp) (r i v : Nat) : tg_ (wR_ σ r i v) = tg_ σ := rfl
theorem afI_wR (σ : Hp) (r i v : Nat) : fI_ (wR_ σ r i v) = fI_ σ := rfl
theorem afL_wR (σ : Hp) (r i v : Nat) : fL_ (wR_ σ r i v) = fL_ σ := rfl
theorem afR_wR (σ : Hp) (r i v : Nat) : fR_ (wR_ σ r i v) = fR_ σ := rfl
theorem aln_wR (σ : Hp) (r i v : Nat) : ln_ (wR_ σ r i v) = ln_ σ := rfl
theorem aaI_wR (σ : Hp) (r i v : Nat) : aI_ (wR_ σ r i v) = aI_ σ := rfl
theorem aaL_wR (σ : Hp) (r i v : Nat) : aL_ (wR_ σ r i v) = aL_ σ := rfl
theorem aaR_wR (σ : Hp) (r i v : Nat) : aR_ (wR_ σ r i v) = u2_ (aR_ σ) r i v := rfl
theorem anx_wR (σ : Hp) (r i v : Nat) : nx_ (wR_ σ r i v) = nx_ σ := rfl
theorem abc_wR (σ : Hp) (r i v : Nat) : bc_ (wR_ σ r i v) = bc_ σ := rfl
theorem abs_wR (σ : Hp) (r i v : Nat) : bs_ (wR_ σ r i v) = bs_ σ := rfl
theorem alo_wR (σ : Hp) (r i v : Nat) : lo_ (wR_ σ r i v) = lo_ σ := rfl
theorem atg_cI (σ : Hp) (a b d e n : Nat) : tg_ (cI_ σ a b d e n) = tg_ σ := rfl
theorem afI_cI (σ : Hp) (a b d e n : Nat) : fI_ (cI_ σ a b d e n) = fI_ σ := rfl
theorem afL_cI (σ : Hp) (a b d e n : Nat) : fL_ (cI_ σ a b d e n) = fL_ σ := rfl
theorem afR_cI (σ : Hp) (a b d e n : Nat) : fR_ (cI_ σ a b d e n) = fR_ σ := rfl
theorem aln_cI (σ : Hp) (a b d e n : Nat) : ln_ (cI_ σ a b d e n) = ln_ σ := rfl
theorem aaI_cI (σ : Hp) (a b d e n : Nat) : aI_ (cI_ σ a b d e n) = cp_ (aI_ σ) a b d e n := rfl
theorem aaL_cI (σ : Hp) (a b d e n : Nat) : aL_ (cI_ σ a b d e n) = aL_ σ := rfl
theorem aaR_cI (σ : Hp) (a b d e n : Nat) : aR_ (cI_ σ a b d e n) = aR_ σ := rfl
theorem anx_cI (σ : Hp) (a b d e n : Nat) : nx_ (cI_ σ a b d e n) = nx_ σ := rfl
theorem abc_cI (σ : Hp) (a b d e n : Nat) : bc_ (cI_ σ a b d e n) = bc_ σ := rfl
theorem abs_cI (σ : Hp) (a b d e n : Nat) : bs_ (cI_ σ a b d e n) = bs_ σ := rfl
theorem alo_cI (σ : Hp) (a b d e n : Nat) : lo_ (cI_ σ a b d e n) = lo_ σ := rfl
theorem atg_cR (σ : Hp) (a b d e n : Nat) : tg_ (cR_ σ a b d e n) = tg_ σ := rfl
theorem afI_cR (σ : Hp) (a b d e n : Nat) : fI_ (cR_ σ a b d e n) = fI_ σ := rfl
theorem afL_cR (σ : Hp) (a b d e n : Nat) : fL_ (cR_ σ a b d e n) = fL_ σ := rfl
theorem afR_cR (σ : Hp) (a b d e n : Nat) : fR_ (cR_ σ a b d e n) = fR_ σ := rfl
theorem aln_cR (σ : Hp) (a b d e n : Nat) : ln_ (cR_ σ a b d e n) = ln_ σ := rfl
theorem aaI_cR (σ : Hp) (a b d e n : Nat) : aI_ (cR_ σ a b d e n) = aI_ σ := rfl
theorem aaL_cR (σ : Hp) (a b d e n : Nat) : aL_ (cR_ σ a b d e n) = aL_ σ := rfl
theorem aaR_cR (σ : Hp) (a b d e n : Nat) : aR_ (cR_ σ a b d e n) = cp_ (aR_ σ) a b d e n := rfl
theorem anx_cR (σ : Hp) (a b d e n : Nat) : nx_ (cR_ σ a b d e n) = nx_ σ := rfl
theorem abc_cR (σ : Hp) (a b d e n : Nat) : bc_ (cR_ σ a b d e n) = bc_ σ := rfl
theorem abs_cR (σ : Hp) (a b d e n : Nat) : bs_ (cR_ σ a b d e n) = bs_ σ := rfl
theorem alo_cR (σ : Hp) (a b d e n : Nat) : lo_ (cR_ σ a b d e n) = lo_ σ := rfl
theorem atg_mO (σ : Hp) (c n : Nat) : tg_ (mO_ σ c n) = u1_ (tg_ σ) (nx_ σ) (c + 1) := rfl
theorem afI_mO (σ : Hp) (c n : Nat) : fI_ (mO_ σ c n) = z3_ (fI_ σ) (nx_ σ) 0 := rfl
theorem afL_mO (σ : Hp) (c n : Nat) : fL_ (mO_ σ c n) = z3_ (fL_ σ) (nx_ σ) 0 := rfl
theorem afR_mO (σ : Hp) (c n : Nat) : fR_ (mO_ σ c n) = z3_ (fR_ σ) (nx_ σ) 0 := rfl
theorem aln_mO (σ : Hp) (c n : Nat) : ln_ (mO_ σ c n) = ln_ σ := rfl
theorem aaI_mO (σ : Hp) (c n : Nat) : aI_ (mO_ σ c n) = aI_ σ := rfl
theorem aaL_mO (σ : Hp) (c n : Nat) : aL_ (mO_ σ c n) = aL_ σ := rfl
theorem aaR_mO (σ : Hp) (c n : Nat) : aR_ (mO_ σ c n) = aR_ σ := rfl
theorem anx_mO (σ : Hp) (c n : Nat) : nx_ (mO_ σ c n) = nx_ σ + 1 := rfl
theorem abc_mO (σ : Hp) (c n : Nat) : bc_ (mO_ σ c n) = bc_ σ - 1 := rfl
theorem abs_mO (σ : Hp) (c n : Nat) : bs_ (mO_ σ c n) = bs_ σ - n := rfl
theorem alo_mO (σ : Hp) (c n : Nat) : lo_ (mO_ σ c n) = lo_ σ := rfl
theorem atg_mA (σ : Hp) (t n : Nat) : tg_ (mA_ σ t n) = u1_ (tg_ σ) (nx_ σ) t := rfl
theorem afI_mA (σ : Hp) (t n : Nat) : fI_ (mA_ σ t n) = fI_ σ := rfl
theorem afL_mA (σ : Hp) (t n : Nat) : fL_ (mA_ σ t n) = fL_ σ := rfl
theorem afR_mA (σ : Hp) (t n : Nat) : fR_ (mA_ σ t n) = fR_ σ := rfl
theorem aln_mA (σ : Hp) (t n : Nat) : ln_ (mA_ σ t n) = u1_ (ln_ σ) (nx_ σ) n := rfl
theorem aaI_mA (σ : Hp) (t n : Nat) : aI_ (mA_ σ t n) = z2_ (aI_ σ) (nx_ σ) 0 := rfl
theorem aaL_mA (σ : Hp) (t n : Nat) : aL_ (mA_ σ t n) = z2_ (aL_ σ) (nx_ σ) 0 := rfl
theorem aaR_mA (σ : Hp) (t n : Nat) : aR_ (mA_ σ t n) = z2_ (aR_ σ) (nx_ σ) 0 := rfl
theorem anx_mA (σ : Hp) (t n : Nat) : nx_ (mA_ σ t n) = nx_ σ + 1 := rfl
theorem abc_mA (σ : Hp) (t n : Nat) : bc_ (mA_ σ t n) = bc_ σ - 1 := rfl
theorem abs_mA (σ : Hp) (t n : Nat) : bs_ (mA_ σ t n) = bs_ σ - n := rfl
theorem alo_mA (σ : Hp) (t n : Nat) : lo_ (mA_ σ t n) = lo_ σ := rfl
theorem atg_bu (σ : Hp) (k n : Nat) : tg_ (bu_ σ k n) = tg_ σ := rfl
theorem afI_bu (σ : Hp) (k n : Nat) : fI_ (bu_ σ k n) = fI_ σ := rfl
theorem afL_bu (σ : Hp) (k n : Nat) : fL_ (bu_ σ k n) = fL_ σ := rfl
theorem afR_bu (σ : Hp) (k n : Nat) : fR_ (bu_ σ k n) = fR_ σ := rfl
theorem aln_bu (σ : Hp) (k n : Nat) : ln_ (bu_ σ k n) = ln_ σ := rfl
theorem aaI_bu (σ : Hp) (k n : Nat) : aI_ (bu_ σ k n) = aI_ σ := rfl
theorem aaL_bu (σ : Hp) (k n : Nat) : aL_ (bu_ σ k n) = aL_ σ := rfl
theorem aaR_bu (σ : Hp) (k n : Nat) : aR_ (bu_ σ k n) = aR_ σ := rfl
theorem anx_bu (σ : Hp) (k n : Nat) : nx_ (bu_ σ k n) = nx_ σ := rfl
theorem abc_bu (σ : Hp) (k n : Nat) : bc_ (bu_ σ k n) = k := rfl
theorem abs_bu (σ : Hp) (k n : Nat) : bs_ (bu_ σ k n) = n := rfl
theorem alo_bu (σ : Hp) (k n : Nat) : lo_ (bu_ σ k n) = lo_ σ := rfl
theorem u1_e {α : Type} {f : Nat → α} {k : Nat} {v : α} : u1_ f k v k = v := by simp [u1_]
theorem u1_k {α : Type} {f : Nat → α} {k k' : Nat} {v : α} (h : k' ≠ k) : u1_ f k v k' = f k' := by simp [u1_, h]
theorem u2_e {α : Type} {f : Nat → Nat → α} {r i : Nat} {v : α} : u2_ f r i v r i = v := by simp [u2_]
theorem u2_r {α : Type} {f : Nat → Nat → α} {r i r' i' : Nat} {v : α} (h : r' ≠ r) : u2_ f r i v r' i' = f r' i' := by simp [u2_, h]
theorem u2_i {α : Type} {f : Nat → Nat → α} {r i r' i' : Nat} {v : α} (h : i' ≠ i) : u2_ f r i v r' i' = f r' i' := by simp [u2_, h]
theorem u3_e {α : Type} {f : Nat → Nat → Nat → α} {c k r : Nat} {v : α} : u3_ f c k r v c k r = v := by simp [u3_]
theorem u3_c {α : Type} {f : Nat → Nat → Nat → α} {c k r c' k' r' : Nat} {v : α} (h : c' ≠ c) : u3_ f c k r v c' k' r' = f c' k' r' := by simp [u3_, h]
theorem u3_k {α : Type} {f : Nat → Nat → Nat → α} {c k r c' k' r' : Nat} {v : α} (h : k' ≠ k) : u3_ f c k r v c' k' r' = f c' k' r' := by simp [u3_, h]
theorem u3_r {α : Type} {f : Nat → Nat → Nat → α} {c k r c' k' r' : Nat} {v : α} (h : r' ≠ r) : u3_ f c k r v c' k' r' = f c' k' r' := by simp [u3_, h]
theorem z2_e {α : Type} {f : Nat → Nat → α} {r i : Nat} {v : α} : z2_ f r v r i = v := by simp [z2_]
theorem z2_r {α : Type} {f : Nat → Nat → α} {r r' i : Nat} {v : α} (h : r' ≠ r) : z2_ f r v r' i = f r' i := by simp [z2_, h]
theorem z3_e {α : Type} {f : Nat → Nat → Nat → α} {c k r : Nat} {v : α} : z3_ f r v c k r = v := by simp [z3_]
theorem z3_r {α : Type} {f : Nat → Nat → Nat → α} {c k r r' : Nat} {v : α} (h : r' ≠ r) : z3_ f r v c k r' = f c k r' := by simp [z3_, h]
theorem cp_r {α : Type} {f : Nat → Nat → α} {a b d e n r i : Nat} (h : r ≠ d) : cp_ f a b d e n r i = f r i := by simp [cp_, h]
theorem cp_o {α : Type} {f : Nat → Nat → α} {a b d e n r i : Nat} (h : i < e ∨ e + n ≤ i) : cp_ f a b d e n r i = f r i := by unfold cp_; rw [if_neg (by omega)]
theorem cp_i {α : Type} {f : Nat → Nat → α} {a b d e n i : Nat} (h : e ≤ i) (h2 : i < e + n) : cp_ f a b d e n d i = f a (b + (i - e)) := by unfold cp_; rw [if_pos ⟨rfl, h, h2⟩]
