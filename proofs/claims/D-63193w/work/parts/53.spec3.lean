/-! THE DESCRIPTION: the whole state, and each operation on it -/
def upA {α : Type} (f : Nat → α) (k : Nat) (v : α) : Nat → α := fun j => if j = k then v else f j
theorem upA_e {α : Type} {f : Nat → α} {k : Nat} {v : α} : upA f k v k = v := by simp [upA]
theorem upA_n {α : Type} {f : Nat → α} {k j : Nat} {v : α} (h : j ≠ k) : upA f k v j = f j := by simp [upA, h]
abbrev AS : Type := (Nat × (Nat → Nat) × (Nat → Nat) × (Nat → Bool)) × (Bool × Int32 × Int32) × TT × Nat × List FT
def sN (S : AS) : Nat := S.1.1
def sB (S : AS) : Nat → Nat := S.1.2.1
def sSt (S : AS) : Nat → Nat := S.1.2.2.1
def sDf (S : AS) : Nat → Bool := S.1.2.2.2
def sLo (S : AS) : Bool := S.2.1.1
def sLf (S : AS) : Int32 := S.2.1.2.1
def sWr (S : AS) : Int32 := S.2.1.2.2
def sT (S : AS) : TT := S.2.2.1
def sLa (S : AS) : Nat := S.2.2.2.1
def sO (S : AS) : List FT := S.2.2.2.2
def b2 (b : Bool) : Int32 := if b then 1 else 0
theorem b2_0 {b : Bool} : b2 b = 0 ↔ b = false := by cases b <;> simp [b2] <;> decide
/-- an int as a place below n -/
def ixN (x : Int32) (n : Nat) : Option Nat := if 0 ≤ x.toInt ∧ x.toInt < n then some x.toNatClampNeg else none
theorem ix_cases (x : Int32) {n : Nat} (hn : n < 2 ^ 31) : (∃ j, j < n ∧ x = nI j ∧ ixN x n = some j) ∨ ((x < 0 ∨ nI n ≤ x) ∧ ixN x n = none) := by
  rcases pk_ix x hn with h | h | ⟨j, h1, h2⟩
  · refine Or.inr ⟨Or.inl h, ?_⟩
    unfold ixN
    rw [Int32.lt_iff_toInt_lt] at h
    have : (0 : Int32).toInt = 0 := by decide
    rw [if_neg (by omega)]
  · refine Or.inr ⟨Or.inr h, ?_⟩
    unfold ixN
    rw [Int32.le_iff_toInt_le, nI_toInt hn] at h
    rw [if_neg (by omega)]
  · refine Or.inl ⟨j, h1, h2, ?_⟩
    unfold ixN
    rw [h2, nI_toInt (by omega), if_pos (by omega), nI_clamp (by omega)]
/-- a node by its number -/
def nodeOf (t : TT) (x : Int32) : Option Nat := match ixN x (tN t) with
  | some k => if tT t k then some k else none
  | none => none
def dpF (t : TT) : Nat → Nat → Nat
  | 0, _ => 0
  | j + 1, k => if k = 0 then 0 else dpF t j (tP t k) + 1
def dep (t : TT) (k : Nat) : Nat := dpF t 8 k
def lieF (t : TT) : Nat → Nat → Nat → Prop
  | 0, q, k => q = k
  | j + 1, q, k => q = k ∨ (q ≠ 0 ∧ lieF t j (tP t q) k)
def lies (t : TT) (q k : Nat) : Prop := lieF t 8 q k
def nmd (t : TT) (d : Nat) (l : List Nat) (but : Nat) : Prop := ∃ k ∈ tL t, 0 < k ∧ k ≠ but ∧ tP t k = d ∧ tM t k = l
/-- the tree is sound -/
def TOK (n : Nat) (t : TT) : Prop := (1 ≤ tN t ∧ tN t ≤ 600 ∧ (tL t).length ≤ 30) ∧ (tT t 0 = true ∧ tD t 0 = 1 ∧ tP t 0 = 4294967295 ∧ tM t 0 = [] ∧ tS t 0 = 0 ∧ tE t 0 = 0 ∧ tX t 0 = 0) ∧
  (∃ dp : Nat → Nat, dp 0 = 0 ∧ ∀ k, 0 < k → k < tN t → tT t k = true → tP t k < tN t ∧ tT t (tP t k) = true ∧ tD t (tP t k) = 1 ∧ dp k = dp (tP t k) + 1 ∧ dp k ≤ 7 ∧ (tD t k = 1 → dp k ≤ 6)) ∧
  (∀ k, 0 < k → k < tN t → tT t k = true → tD t k ≤ 1 ∧ NM (tM t k) ∧ (tD t k = 1 → tS t k = 0 ∧ tE t k = 0 ∧ tX t k = 0) ∧ tS t k ≤ 409600 ∧ tX t k ≤ 200 ∧ (tE t k ≤ 255 ∨ tE t k = 4294967295) ∧ (tS t k = 0 → tX t k = 0) ∧ (tD t k = 0 → tW t k = true → tX t k + (tS t k + 2047) / 2048 ≤ n) ∧ (tD t k = 0 → tW t k = false → tS t k ≤ 6000 ∧ tE t k ≤ 255 ∧ tX t k = 0)) ∧
  (∀ i j, 0 < i → i < tN t → tT t i = true → 0 < j → j < tN t → tT t j = true → i ≠ j → tP t i = tP t j → tI t i ≠ tI t j)
/-- the state is sound -/
def AOK (S : AS) : Prop := Med (sN S) (sB S) (sSt S) ∧ TOK (sN S) (sT S) ∧ sLa S < 2 ^ 32 ∧ (sO S).length ≤ 30 ∧ (∀ k, k < (sO S).length → FO (sN S) (gF (sO S) k))
/-! operations -/
def wMed (S : AS) (B St : Nat → Nat) (Df : Nat → Bool) : AS := ((sN S, B, St, Df), S.2)
def wPow (S : AS) (lo : Bool) (lf wr : Int32) : AS := (S.1, (lo, lf, wr), S.2.2)
def wT (S : AS) (t : TT) : AS := (S.1, S.2.1, t, S.2.2.2)
def wLa (S : AS) (l : Nat) : AS := (S.1, S.2.1, S.2.2.1, l, S.2.2.2.2)
def wO (S : AS) (o : List FT) : AS := (S.1, S.2.1, S.2.2.1, S.2.2.2.1, o)
def opDefect (S : AS) (x : Int32) : Int32 × AS := match ixN x (sN S) with
  | some j => (1, wMed S (sB S) (sSt S) (upA (sDf S) j true))
  | none => (0, S)
def opPower (S : AS) (x : Int32) : AS := wPow S (sLo S) (if x < 0 then -1 else x) (sWr S)
def opState (S : AS) (x : Int32) : Int32 := match ixN x (sN S) with
  | some j => nI (sSt S j)
  | none => -1
def opByte (S : AS) (x : Int32) : Int32 := match ixN x (2048 * sN S) with
  | some p => nI (sB S p)
  | none => -1
def byt (x : Int32) : Nat := x.toBitVec.toNat % 256
theorem byt_b (x : Int32) : x.toInt8.toInt32 = sb_b (byt x) := by
  unfold sb_b nI byt
  congr 1
  apply Int8.toBitVec_inj.mp
  apply BitVec.eq_of_toNat_eq
  simp [BitVec.signExtend_eq_setWidth_of_le]
def opSpoil (S : AS) (x v : Int32) : Int32 × AS := match ixN x (2048 * sN S) with
  | some p => if sSt S (p / 2048) = 1 then (nI (sB S p), wMed S (upA (sB S) p (byt v)) (sSt S) (sDf S)) else (-1, S)
  | none => (-1, S)
def opNode (S : AS) (x w : Int32) : Option Int32 := match ixN x (sO S).length with
  | some k => match ixN w 4 with
    | some j => some (if j = 0 then nI (fa_ (gF (sO S) k)) else if j = 1 then (if fd_ (gF (sO S) k) = 1 then 0 else 1) else if j = 2 then nI (fs_ (gF (sO S) k)) else nI (fx_ (gF (sO S) k)))
    | none => none
  | none => none
def opName (S : AS) (x : Int32) : Option Int64 := match ixN x (sO S).length with
  | some k => some (lN (wd (fn_ (gF (sO S) k))))
  | none => none
def opRead (S : AS) (x y : Int32) : Option Int32 := match ixN x (sO S).length with
  | some k => if fd_ (gF (sO S) k) = 1 then none else match ixN y (fs_ (gF (sO S) k)) with
    | some i => some (nI (sB S (2048 * fx_ (gF (sO S) k) + i)))
    | none => none
  | none => none
def opTree (S : AS) (x w : Int32) : Option Int32 := match nodeOf (sT S) x with
  | some k => match ixN w 5 with
    | some j => some (if j = 0 then nI (tP (sT S) k) else if j = 1 then (if tD (sT S) k = 1 then 0 else 1) else if j = 2 then nI (tS (sT S) k) else if j = 3 then nI (tE (sT S) k) else nI (tX (sT S) k))
    | none => none
  | none => none
noncomputable def sM (S : AS) : List Nat := mks (sN S) (sB S) (sSt S)
noncomputable def sRd (S : AS) (s : Nat) : Sum Nat (List FT) := rd (sN S) (sB S) (sSt S) (lowN (sB S) (2048 * s + 4) 4)
noncomputable def opMark (S : AS) (x w : Int32) : Option Int32 := match ixN x (sM S).length with
  | some i => match ixN w 4 with
    | some j => some (if j = 0 then nI ((sM S).getD i 0) else if j = 1 then nI (lowN (sB S) (2048 * (sM S).getD i 0 + 4) 4) else if j = 2 then nI (lowN (sB S) (2048 * (sM S).getD i 0 + 8) 4) else rdA (sRd S ((sM S).getD i 0)))
    | none => none
  | none => none
def okF (r : Sum Nat (List FT)) : List FT := match r with
  | .inr F => F
  | .inl _ => []
noncomputable def opOpen (S : AS) (x : Int32) : Int32 × AS := match ixN x (sM S).length with
  | some i => (rdA (sRd S ((sM S).getD i 0)), wO S (okF (sRd S ((sM S).getD i 0))))
  | none => (-1000000, S)
/-- marks whose sessions can be read: how many, the last with its nodes -/
noncomputable def dsc (S : AS) : List Nat → Nat → Option (Nat × List FT) → Nat × Option (Nat × List FT)
  | [], c, b => (c, b)
  | s :: l, c, b => match sRd S s with
    | .inr F => dsc S l (c + 1) (some (s, F))
    | .inl _ => dsc S l c b
def rootF : FT := (4294967295, 1, 0, 0, [], 0)
def treeOf (F : List FT) : TT := (F.length, fun k => decide (k < F.length), fun k => fd_ (gF F k), fun k => fa_ (gF F k), fun k => fn_ (gF F k), fun k => if fd_ (gF F k) = 1 then 0 else fs_ (gF F k), fun k => if fd_ (gF F k) = 1 then 0 else 4294967295, fun k => decide (fd_ (gF F k) ≠ 1), fun k => if fd_ (gF F k) = 1 then 0 else fx_ (gF F k))
noncomputable def opDiscover (S : AS) : Int32 × AS := match (dsc S (sM S) 0 none).2 with
  | some (s, F) => (nI (dsc S (sM S) 0 none).1, wLa (wT (wPow S false (if sLo S then -1 else sLf S) (sWr S)) (treeOf F)) (lowN (sB S) (2048 * s + 8) 4))
  | none => (0, wLa (wT (wPow S false (if sLo S then -1 else sLf S) (sWr S)) (treeOf [rootF])) 0)
def tAdd (t : TT) (d : Nat) (l : List Nat) (dir size seed : Nat) : TT := (tN t + 1, upA (tT t) (tN t) true, upA (tD t) (tN t) dir, upA (tP t) (tN t) d, upA (tM t) (tN t) l, upA (tS t) (tN t) size, upA (tE t) (tN t) seed, upA (tW t) (tN t) false, upA (tX t) (tN t) 0)
noncomputable def opAdd (S : AS) (x : Int32) (a dir size seed : Nat) (right : Prop) : Int32 × AS := if sLo S then (-4, S) else match nodeOf (sT S) x with
  | none => (-2, S)
  | some d => ic (¬ right ∨ tD (sT S) d ≠ 1 ∨ told a = [] ∨ (dir = 1 ∧ dep (sT S) d = 6)) (-2, S) (ic (nmd (sT S) d (told a) 0) (-5, S) (if (tL (sT S)).length = 30 then (-3, S) else (nI (tN (sT S)), wT S (tAdd (sT S) d (told a) dir size seed))))
noncomputable def opDir (S : AS) (x : Int32) (a : Nat) : Int32 × AS := opAdd S x a 1 0 0 True
/-- a file's size and seed -/
def cont (size seed : Int32) : Option (Nat × Nat) := match ixN size 6001 with
  | some i => match ixN seed 256 with
    | some j => some (i, j)
    | none => none
  | none => none
noncomputable def opFile (S : AS) (x : Int32) (a : Nat) (size seed : Int32) : Int32 × AS := match cont size seed with
  | some (i, j) => opAdd S x a 0 i j True
  | none => opAdd S x a 0 0 0 False
def tRep (t : TT) (k size seed : Nat) : TT := (tN t, tT t, tD t, tP t, tM t, upA (tS t) k size, upA (tE t) k seed, upA (tW t) k false, upA (tX t) k 0)
def opReplace (S : AS) (x size seed : Int32) : Int32 × AS := if sLo S then (-4, S) else match nodeOf (sT S) x with
  | none => (-2, S)
  | some k => if tD (sT S) k = 1 then (-2, S) else match cont size seed with
    | some (i, j) => (0, wT S (tRep (sT S) k i j))
    | none => (-2, S)
def tRem (t : TT) (k : Nat) : TT := (tN t, upA (tT t) k false, t.2.2)
noncomputable def opRemove (S : AS) (x : Int32) : Int32 × AS := if sLo S then (-4, S) else match nodeOf (sT S) x with
  | none => (-2, S)
  | some k => ic (k = 0 ∨ ∃ q ∈ tL (sT S), 0 < q ∧ tP (sT S) q = k) (-2, S) (0, wT S (tRem (sT S) k))
def tRen (t : TT) (k d : Nat) (l : List Nat) : TT := (tN t, tT t, tD t, upA (tP t) k d, upA (tM t) k l, t.2.2.2.2.2)
noncomputable def opRename (S : AS) (x y : Int32) (a : Nat) : Int32 × AS := if sLo S then (-4, S) else match nodeOf (sT S) x with
  | none => (-2, S)
  | some k => match nodeOf (sT S) y with
    | none => (-2, S)
    | some d => ic (k = 0 ∨ tD (sT S) d ≠ 1 ∨ told a = [] ∨ lies (sT S) d k) (-2, S) (ic (∃ q ∈ tL (sT S), 0 < q ∧ tD (sT S) q = 1 ∧ lies (sT S) q k ∧ 6 + dep (sT S) k < dep (sT S) q + dep (sT S) d + 1) (-2, S) (ic (nmd (sT S) d (told a) k) (-5, S) (0, wT S (tRen (sT S) k d (told a)))))
def tLay (t : TT) (k f : Nat) : TT := (tN t, tT t, tD t, tP t, tM t, tS t, tE t, upA (tW t) k true, upA (tX t) k f)
/-- files are laid: 0 all, 3 full, 4 lost -/
def cmF (n : Nat) (Df : Nat → Bool) (B : Nat → Nat) (all : Bool) : List Nat → TT → BS → Nat × TT × BS
  | [], t, b => (0, t, b)
  | k :: l, t, b => if tD t k = 1 ∨ tS t k = 0 ∨ (all = false ∧ tW t k = true) then cmF n Df B all l t b else
      if (layB n Df ((tS t k + 2047) / 2048) (filP t B k (tW t k)) 201 b).1 = 0 then cmF n Df B all l (tLay t k (layB n Df ((tS t k + 2047) / 2048) (filP t B k (tW t k)) 201 b).2.1) (layB n Df ((tS t k + 2047) / 2048) (filP t B k (tW t k)) 201 b).2.2
      else ((layB n Df ((tS t k + 2047) / 2048) (filP t B k (tW t k)) 201 b).1, t, (layB n Df ((tS t k + 2047) / 2048) (filP t B k (tW t k)) 201 b).2.2)
def cod (c : Nat) : Int32 := if c = 3 then -3 else -4
/-- files, then a session: 0 well, 3 full, 4 lost -/
def cmA (n : Nat) (Df : Nat → Bool) (B : Nat → Nat) (all : Bool) (t : TT) (num : Nat) (b : BS) : Nat × TT × BS :=
  if (cmF n Df B all (tL t) t b).1 = 0 then ((sesB n Df (cmF n Df B all (tL t) t b).2.1 (dirT t) num 201 (cmF n Df B all (tL t) t b).2.2).1, (cmF n Df B all (tL t) t b).2.1, (sesB n Df (cmF n Df B all (tL t) t b).2.1 (dirT t) num 201 (cmF n Df B all (tL t) t b).2.2).2)
  else cmF n Df B all (tL t) t b
def inc32 (a : Nat) : Nat := (a + 1) % 4294967296
/-- what a commit makes of the state -/
def cmS (S : AS) (r : Nat × TT × BS) : AS := ((sN S, bB r.2.2, bSt r.2.2, sDf S), (bLo r.2.2, bL r.2.2, bWr r.2.2), r.2.1, (if r.1 = 0 then inc32 (sLa S) else sLa S), sO S)
def opCommit (S : AS) : Int32 × AS := if sLo S then (-4, S) else
  ((if (cmA (sN S) (sDf S) (sB S) false (sT S) (inc32 (sLa S)) (sB S, sSt S, sLf S, sWr S, false)).1 = 0 then nI (inc32 (sLa S)) else cod (cmA (sN S) (sDf S) (sB S) false (sT S) (inc32 (sLa S)) (sB S, sSt S, sLf S, sWr S, false)).1),
    cmS S (cmA (sN S) (sDf S) (sB S) false (sT S) (inc32 (sLa S)) (sB S, sSt S, sLf S, sWr S, false)))
def cpA (S : AS) : Nat × TT × BS := cmA (sN S) (fun _ => false) (sB S) true (sT S) 1 (fun _ => 0, fun _ => 0, sLf S, sWr S, false)
def opCompact (S : AS) : Int32 × AS := if sLo S then (-4, S) else
  if (cpA S).1 = 0 then (1, ((sN S, bB (cpA S).2.2, bSt (cpA S).2.2, fun _ => false), (bLo (cpA S).2.2, bL (cpA S).2.2, bWr (cpA S).2.2), (cpA S).2.1, 1, []))
  else (cod (cpA S).1, wPow S (bLo (cpA S).2.2) (bL (cpA S).2.2) (bWr (cpA S).2.2))
