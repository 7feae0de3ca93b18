/-! THE SPLIT HEAP: one pure value that pictures the machine's heap from the law's start on. A reference is a Nat: 0 is null, the address q is q + 1 -/
/-- the law's start: state, the script's cell, class numbers, field places, text constants' cells, the class object of Object[], ArrayList's empty array -/
abbrev GG_ : Type := State × Nat × (Nat → ClassId) × (Nat → Nat → Nat) × (Nat → Nat) × Nat × Nat
/-- tag; int fields (class, field, object); long fields; reference fields; array lengths; int, long, reference contents; next reference, cells and slots left, the law's start -/
abbrev Hp : Type := (Nat → Nat) × (Nat → Nat → Nat → Int32) × (Nat → Nat → Nat → Int64) × (Nat → Nat → Nat → Nat) × (Nat → Nat) × (Nat → Nat → Int32) × (Nat → Nat → Int64) × (Nat → Nat → Nat) × (Nat × Nat × Nat × Nat)
def tg_ (σ : Hp) : Nat → Nat := σ.1
def fI_ (σ : Hp) : Nat → Nat → Nat → Int32 := σ.2.1
def fL_ (σ : Hp) : Nat → Nat → Nat → Int64 := σ.2.2.1
def fR_ (σ : Hp) : Nat → Nat → Nat → Nat := σ.2.2.2.1
def ln_ (σ : Hp) : Nat → Nat := σ.2.2.2.2.1
def aI_ (σ : Hp) : Nat → Nat → Int32 := σ.2.2.2.2.2.1
def aL_ (σ : Hp) : Nat → Nat → Int64 := σ.2.2.2.2.2.2.1
def aR_ (σ : Hp) : Nat → Nat → Nat := σ.2.2.2.2.2.2.2.1
def nx_ (σ : Hp) : Nat := σ.2.2.2.2.2.2.2.2.1
def bc_ (σ : Hp) : Nat := σ.2.2.2.2.2.2.2.2.2.1
def bs_ (σ : Hp) : Nat := σ.2.2.2.2.2.2.2.2.2.2.1
def lo_ (σ : Hp) : Nat := σ.2.2.2.2.2.2.2.2.2.2.2
def u1_ {α : Type} (f : Nat → α) (k : Nat) (v : α) : Nat → α := fun j => if j = k then v else f j
def u2_ {α : Type} (f : Nat → Nat → α) (r i : Nat) (v : α) : Nat → Nat → α := fun r' i' => if r' = r ∧ i' = i then v else f r' i'
def u3_ {α : Type} (f : Nat → Nat → Nat → α) (c k r : Nat) (v : α) : Nat → Nat → Nat → α := fun c' k' r' => if c' = c ∧ k' = k ∧ r' = r then v else f c' k' r'
def z2_ {α : Type} (f : Nat → Nat → α) (r : Nat) (v : α) : Nat → Nat → α := fun r' i' => if r' = r then v else f r' i'
def z3_ {α : Type} (f : Nat → Nat → Nat → α) (r : Nat) (v : α) : Nat → Nat → Nat → α := fun c' k' r' => if r' = r then v else f c' k' r'
def cp_ {α : Type} (f : Nat → Nat → α) (src sp dst dp n : Nat) : Nat → Nat → α := fun r' i' => if r' = dst ∧ dp ≤ i' ∧ i' < dp + n then f src (sp + (i' - dp)) else f r' i'
def sI_ (σ : Hp) (c k r : Nat) (v : Int32) : Hp := (σ.1, u3_ σ.2.1 c k r v, σ.2.2)
def sL_ (σ : Hp) (c k r : Nat) (v : Int64) : Hp := (σ.1, σ.2.1, u3_ σ.2.2.1 c k r v, σ.2.2.2)
def sR_ (σ : Hp) (c k r : Nat) (v : Nat) : Hp := (σ.1, σ.2.1, σ.2.2.1, u3_ σ.2.2.2.1 c k r v, σ.2.2.2.2)
def wI_ (σ : Hp) (r i : Nat) (v : Int32) : Hp := (σ.1, σ.2.1, σ.2.2.1, σ.2.2.2.1, σ.2.2.2.2.1, u2_ σ.2.2.2.2.2.1 r i v, σ.2.2.2.2.2.2)
def wL_ (σ : Hp) (r i : Nat) (v : Int64) : Hp := (σ.1, σ.2.1, σ.2.2.1, σ.2.2.2.1, σ.2.2.2.2.1, σ.2.2.2.2.2.1, u2_ σ.2.2.2.2.2.2.1 r i v, σ.2.2.2.2.2.2.2)
def wR_ (σ : Hp) (r i : Nat) (v : Nat) : Hp := (σ.1, σ.2.1, σ.2.2.1, σ.2.2.2.1, σ.2.2.2.2.1, σ.2.2.2.2.2.1, σ.2.2.2.2.2.2.1, u2_ σ.2.2.2.2.2.2.2.1 r i v, σ.2.2.2.2.2.2.2.2)
def cI_ (σ : Hp) (src sp dst dp n : Nat) : Hp := (σ.1, σ.2.1, σ.2.2.1, σ.2.2.2.1, σ.2.2.2.2.1, cp_ σ.2.2.2.2.2.1 src sp dst dp n, σ.2.2.2.2.2.2)
def cR_ (σ : Hp) (src sp dst dp n : Nat) : Hp := (σ.1, σ.2.1, σ.2.2.1, σ.2.2.2.1, σ.2.2.2.2.1, σ.2.2.2.2.2.1, σ.2.2.2.2.2.2.1, cp_ σ.2.2.2.2.2.2.2.1 src sp dst dp n, σ.2.2.2.2.2.2.2.2)
/-- a new object of class c with n slots -/
def mO_ (σ : Hp) (c n : Nat) : Hp := (u1_ (tg_ σ) (nx_ σ) (c + 1), z3_ (fI_ σ) (nx_ σ) 0, z3_ (fL_ σ) (nx_ σ) 0, z3_ (fR_ σ) (nx_ σ) 0, ln_ σ, aI_ σ, aL_ σ, aR_ σ, (nx_ σ + 1, bc_ σ - 1, bs_ σ - n, lo_ σ))
/-- a new array of kind t and length n -/
def mA_ (σ : Hp) (t n : Nat) : Hp := (u1_ (tg_ σ) (nx_ σ) t, fI_ σ, fL_ σ, fR_ σ, u1_ (ln_ σ) (nx_ σ) n, z2_ (aI_ σ) (nx_ σ) 0, z2_ (aL_ σ) (nx_ σ) 0, z2_ (aR_ σ) (nx_ σ) 0, (nx_ σ + 1, bc_ σ - 1, bs_ σ - n, lo_ σ))
/-- another purse -/
def bu_ (σ : Hp) (k n : Nat) : Hp := (σ.1, σ.2.1, σ.2.2.1, σ.2.2.2.1, σ.2.2.2.2.1, σ.2.2.2.2.2.1, σ.2.2.2.2.2.2.1, σ.2.2.2.2.2.2.2.1, (nx_ σ, k, n, lo_ σ))
/-- a reference's value -/
def rv_ : Nat → Value
  | 0 => .null
  | q + 1 => .ref q
theorem rv_cat (r : Nat) : (rv_ r).category = 1 := by cases r <;> rfl
theorem rv_inj {a b : Nat} (h : rv_ a = rv_ b) : a = b := by
  cases a <;> cases b <;> simp [rv_] at h <;> simp [h]
def kd_ : FieldType → Nat
  | .long => 1
  | .object _ => 2
  | .array _ => 2
  | _ => 0
def fv_ (σ : Hp) (c k r kd : Nat) : Value := match kd with
  | 0 => .int (fI_ σ c k r)
  | 1 => .long (fL_ σ c k r)
  | _ => rv_ (fR_ σ c k r)
abbrev kC_ : Type := String × u_T × Nat × (Nat → FieldType)
/-- kinds of arrays -/
def aty_ (t : Nat) : FieldType := if t = 100 then .byte else if t = 101 then .boolean else if t = 102 then .int else if t = 103 then .long else if t = 104 then .object "java/lang/Object" else .object "WriteOnceDisc$Found"
def aen_ (t : Nat) : String := if t = 104 then "java/lang/Object" else "WriteOnceDisc$Found"
def av_ (σ : Hp) (t r j : Nat) : Value := if t ≤ 102 then .int (aI_ σ r j) else if t = 103 then .long (aL_ σ r j) else rv_ (aR_ σ r j)
/-- tags of what can't have been there at the law's start -/
def ow_ (t : Nat) : Bool := !(t == 0) && !(t == 13) && !(t == 100) && !(t == 102) && !(t == 104)
/-- an object's cell by its class's table; at cells made since the start the machine keeps nothing beside -/
def OB_ (lo o : Nat) (cC : ClassId) (N : Nat) (iS : Nat → Nat) (H : Heap) (V : Nat → Value) : Prop :=
  ∃ cell : Cell, H[o]? = some cell ∧ cell.cls = cC ∧ (cell.vm ≠ .unknown ∧ cell.vm.isStatics = false ∧ (lo ≤ o → cell.vm = .none)) ∧ ∀ k, k < N → cell.slots[iS k]? = some (V k)
theorem OB_.kept {lo o : Nat} {cC : ClassId} {N : Nat} {iS : Nat → Nat} {H H1 : Heap} {V : Nat → Value} (h : OB_ lo o cC N iS H V) (h1 : H1[o]? = H[o]?) : OB_ lo o cC N iS H1 V := by
  obtain ⟨cell, q, r⟩ := h
  exact ⟨cell, by rw [h1]; exact q, r⟩
theorem OB_.to {lo o : Nat} {cC : ClassId} {N : Nat} {iS : Nat → Nat} {H : Heap} {V V' : Nat → Value} (h : OB_ lo o cC N iS H V) (hv : ∀ k, k < N → V k = V' k) : OB_ lo o cC N iS H V' := by
  obtain ⟨cell, q, r1, r2, r3⟩ := h
  exact ⟨cell, q, r1, r2, fun k hk => by rw [← hv k hk]; exact r3 k hk⟩
theorem OB_.of {lo o : Nat} {cC : ClassId} {N : Nat} {iS : Nat → Nat} {H : Heap} {V : Nat → Value} (h : t_OB o cC N iS H V) : OB_ lo o cC N iS H V := by
  obtain ⟨cell, q, r1, r2, r3⟩ := h
  exact ⟨cell, q, r1, ⟨by rw [r2]; decide, by rw [r2]; rfl, fun _ => r2⟩, r3⟩
def PO_ (G : GG_) (σ : Hp) (H : Heap) (q : Nat) : Prop := ∀ (c : Nat) (x : kC_), kcl[c]? = some x → tg_ σ (q + 1) = c + 1 → OB_ G.1.heap.size q (G.2.2.1 c) x.2.2.1 (G.2.2.2.1 c) H (fun k => fv_ σ c k (q + 1) (kd_ (x.2.2.2 k)))
/-- a row's length, as far as an old row tells it -/
def SZ_ (z n : Nat) : Prop := n ≤ z ∧ z.toInt32 = Int32.ofNat n
theorem SZ_.refl {n : Nat} : SZ_ n n := ⟨Nat.le_refl _, rfl⟩
theorem SZ_.eq {z n : Nat} (h : z = n) : SZ_ z n := by subst h; exact SZ_.refl
theorem SZ_.inn {z n : Nat} {i : Int32} (h : SZ_ z n) (hin : ¬ (i < 0 ∨ n ≤ i.toNatClampNeg)) : ¬ (i < 0 ∨ z ≤ i.toNatClampNeg) := fun q => hin (q.elim Or.inl (fun w => Or.inr (Nat.le_trans h.1 w)))
def AR_ (G : GG_) (H : Heap) (q t n : Nat) (f : Nat → Value) : Prop := ∃ cell : Cell, H[q]? = some cell ∧ G.1.isArrayOf cell (aty_ t) ∧ cell.vm ≠ .unknown ∧ SZ_ cell.slots.size n ∧ (∀ j, j < n → cell.slots[j]? = some (f j)) ∧
  (104 ≤ t → G.1.vm.findClass ("[" ++ (aty_ t).toString) = some cell.cls ∧ ∃ (k : Class) (comp : ClassId), G.1.vm.classes[cell.cls]? = some k ∧ k.kind = .array comp (aty_ t) ∧ G.1.vm.findClass (aen_ t) = some comp)
def PA_ (G : GG_) (σ : Hp) (H : Heap) (q : Nat) : Prop := ∀ t, 100 ≤ t → t ≤ 105 → tg_ σ (q + 1) = t → AR_ G H q t (ln_ σ (q + 1)) (av_ σ t (q + 1))
/-- constants: the text constants' references stand at fR_ 101 j 0, the class object of Object[] at fR_ 100 0 0, ArrayList's empty array at fR_ 100 1 0 -/
def CS_ (G : GG_) (σ : Hp) : Prop := (∀ j, j < 9 → fR_ σ 101 j 0 = G.2.2.2.2.1 j + 1) ∧ fR_ σ 100 0 0 = G.2.2.2.2.2.1 + 1 ∧ fR_ σ 100 1 0 = G.2.2.2.2.2.2 + 1
theorem CS_to {G : GG_} {σ σ' : Hp} (h : CS_ G σ) (e : ∀ c k, fR_ σ' c k 0 = fR_ σ c k 0) : CS_ G σ' := ⟨fun j hj => by rw [e]; exact h.1 j hj, by rw [e]; exact h.2.1, by rw [e]; exact h.2.2⟩
/-- THE PICTURE -/
def Pic_ (G : GG_) (σ : Hp) (H : Heap) : Prop := tg_ σ 0 = 0 ∧ H.size + 1 = nx_ σ ∧ lo_ σ = G.1.heap.size ∧ G.1.heap.size ≤ H.size ∧ (∀ q, q < G.1.heap.size → H[q]? = G.1.heap[q]?) ∧ (∀ q, PO_ G σ H q) ∧ (∀ q, PA_ G σ H q) ∧ (∀ r, tg_ σ r ≠ 0 → r < nx_ σ) ∧ (∀ r, ow_ (tg_ σ r) = true → lo_ σ < r) ∧ CS_ G σ
/-- what is known of the law's start: the tables' words, the classes' numbers, the text constants, two statics -/
def GOK_ (G : GG_) : Prop := (∀ w ∈ lw_tbl, w.before #[Value.ref G.2.1] G.1 = true) ∧ (∀ (c : Nat) (x : kC_), kcl[c]? = some x → u_Kn G.1 x.1 x.2.1 x.2.2.1 (G.2.2.1 c) (G.2.2.2.1 c)) ∧ (Jvm.Cond.and given_1 narrow_1).before #[Value.ref G.2.1] G.1 = true ∧
  (∀ (j : Nat) (x : String × Nat × String), kst_[j]? = some x → vk_R x.1 x.2.1 x.2.2 (G.2.2.2.2.1 j) G.1) ∧ va_Z "java/lang/String" "COMPACT_STRINGS" "Z" (.int 1) (fun q => G.1.heap.size ≤ q) G.1 G.1.heap ∧ va_Z "java/util/ArrayList" "DEFAULTCAPACITY_EMPTY_ELEMENTDATA" "[Ljava/lang/Object;" (.ref G.2.2.2.2.2.2) (fun q => G.1.heap.size ≤ q) G.1 G.1.heap ∧
  va_Mi "[Ljava/lang/Object;" G.2.2.2.2.2.1 G.1 ∧ va_Zq "java/lang/Throwable" "SUPPRESSED_SENTINEL" "Ljava/util/List;" (fun q => G.1.heap.size ≤ q) G.1 G.1.heap ∧ va_Zq "java/lang/Throwable" "UNASSIGNED_STACK" "[Ljava/lang/StackTraceElement;" (fun q => G.1.heap.size ≤ q) G.1 G.1.heap ∧ va_Zq "jdk/internal/util/Preconditions" "SIOOBE_FORMATTER" "Ljava/util/function/BiFunction;" (fun q => G.1.heap.size ≤ q) G.1 G.1.heap
/-- a class's facts -/
def CF_ (ci : Nat) (C : String) (T : u_T) (N : Nat) (ty : Nat → FieldType) : Prop := kcl[ci]? = some (C, T, N, ty) ∧ (∀ w ∈ u_ws C T N, w ∈ lw_all) ∧ (∀ k, k < N → parseFieldDescriptor (T k).2.2.1 = some (ty k)) ∧ (∀ a, a < N → ∀ b, b < N → a ≠ b → (T a).2.1 ≠ (T b).2.1)
theorem cf0_ : CF_ 0 RX1 TX1 11 tyX1 := ⟨rfl, in_X1, tyX1_ok, nmX1⟩
theorem cf1_ : CF_ 1 RX2 TX2 3 tyX2 := ⟨rfl, in_X2, tyX2_ok, nmX2⟩
theorem cf2_ : CF_ 2 RX3 TX3 6 tyX3 := ⟨rfl, in_X3, tyX3_ok, nmX3⟩
theorem cf3_ : CF_ 3 RX4 TX4 1 tyX4 := ⟨rfl, in_X4, tyX4_ok, nmX4⟩
theorem cf4_ : CF_ 4 RX5 TX5 2 tyX5 := ⟨rfl, in_X5, tyX5_ok, nmX5⟩
theorem cf5_ : CF_ 5 RX6 TX6 12 tyX6 := ⟨rfl, in_X6, tyX6_ok, nmX6⟩
theorem cf6_ : CF_ 6 RX7 TX7 4 tyX7 := ⟨rfl, in_X7, tyX7_ok, nmX7⟩
theorem cf7_ : CF_ 7 RX8 TX8 11 tyX8 := ⟨rfl, in_X8, tyX8_ok, nmX8⟩
theorem cf8_ : CF_ 8 RX9 TX9 41 tyX9 := ⟨rfl, in_X9, tyX9_ok, nmX9⟩
theorem cf9_ : CF_ 9 RX10 TX10 6 tyX10 := ⟨rfl, in_X10, tyX10_ok, nmX10⟩
theorem cf10_ : CF_ 10 RJ2 TJ2 3 tyJ2 := ⟨rfl, in_J2, tyJ2_ok, nmJ2⟩
theorem cf11_ : CF_ 11 RJ4 TJ4 4 tyJ4 := ⟨rfl, in_J4, tyJ4_ok, nmJ4⟩
theorem cf12_ : CF_ 12 RJ5 TJ5 4 tyJ5 := ⟨rfl, in_J5, tyJ5_ok, nmJ5⟩
theorem cf13_ : CF_ 13 RJ16 TJ16 6 tyJ16 := ⟨rfl, in_J16, tyJ16_ok, nmJ16⟩
theorem kcl_lt {c : Nat} {x : kC_} (h : kcl[c]? = some x) : c < 14 := (List.getElem?_eq_some_iff.mp h).1
/-- start, end, what may be written -/
def PC_ (G : GG_) (as : List Value) (σ : Hp) : Array Value → State → Prop := fun v U => v = as.toArray ∧ Pic_ G σ U.heap ∧ G.1.WarmedH U.vm
def QI_ (G : GG_) (post : Int32 → Hp → Prop) : Array Value → State → Outcome → State → Prop := fun _ _ o t => ∃ (r : Int32) (σ : Hp), o = .returned (some (.int r)) ∧ post r σ ∧ Pic_ G σ t.heap ∧ G.1.WarmedH t.vm
def QL_ (G : GG_) (post : Int64 → Hp → Prop) : Array Value → State → Outcome → State → Prop := fun _ _ o t => ∃ (r : Int64) (σ : Hp), o = .returned (some (.long r)) ∧ post r σ ∧ Pic_ G σ t.heap ∧ G.1.WarmedH t.vm
def QR_ (G : GG_) (post : Nat → Hp → Prop) : Array Value → State → Outcome → State → Prop := fun _ _ o t => ∃ (r : Nat) (σ : Hp), o = .returned (some (rv_ r)) ∧ post r σ ∧ Pic_ G σ t.heap ∧ G.1.WarmedH t.vm
def QV_ (G : GG_) (post : Hp → Prop) : Array Value → State → Outcome → State → Prop := fun _ _ o t => ∃ σ : Hp, o = .returned none ∧ post σ ∧ Pic_ G σ t.heap ∧ G.1.WarmedH t.vm
def FR_ (G : GG_) : Addr → Prop := fun q => G.1.heap.size ≤ q
def LO_ (G : GG_) (locs : List Loc) : Prop := ∀ q ∈ locs, FR_ G q.base
theorem LO_nil (G : GG_) : LO_ G [] := fun q h => by cases h
theorem LO_add {G : GG_} {locs : List Loc} {a i : Nat} (h : LO_ G locs) (ha : G.1.heap.size ≤ a) : LO_ G (locs ++ [⟨a, i⟩]) := t_lc h ha
theorem PC_blind {G : GG_} {as : List Value} {σ : Hp} : FrameBlind (PC_ G as σ) := fun a U g mk q => q
theorem PC_of {G : GG_} {as : List Value} {σ : Hp} {s U : State} {H : Heap} (hP : Pic_ G σ H) (hK : G.1.WarmedH s.vm) (hU : U.heap = H) (hW : s.WarmedH U.vm) : PC_ G as σ as.toArray U := ⟨rfl, by rw [hU]; exact hP, State.WarmedH.trans hK hW⟩
/-- locals at a method's start -/
def en_ : Nat → List Value → List Nat → List (Nat × Value)
  | i, v :: vs, c :: cs => (i, v) :: en_ (i + c) vs cs
  | _, _, _ => []
theorem en_args : ∀ (vs : List Value) (i : Nat), lv_args i vs = en_ i vs (vs.map fun v => v.category)
  | [], _ => rfl
  | v :: vs, i => by
    simp only [lv_args, List.map_cons, en_]
    rw [en_args vs]
    rcases lv_cat v with h | h <;> simp [h]
theorem en_len : ∀ (vs : List Value), (lg_sl vs).length = (vs.map fun v => v.category).sum
  | [] => rfl
  | v :: vs => by
    have ih := en_len vs
    simp only [lg_sl, List.flatMap_cons, List.length_append, List.map_cons, List.sum_cons] at ih ⊢
    rw [ih]
    rcases lv_cat v with h | h <;> simp [h]
theorem en_entry (vs : List Value) (cs : List Nat) {n : Nat} (hcs : (vs.map fun v => v.category) = cs) (h : cs.sum ≤ n) : lv_has ((lg_sl vs ++ List.replicate (n - (lg_sl vs).length) Slot.unset).toArray) n (en_ 0 vs cs) := by
  have h1 := lv_entry vs (n := n) (by rw [en_len, hcs]; exact h)
  rw [en_args, hcs] at h1
  exact h1
theorem ca_n : (([] : List Value).map fun v => v.category) = [] := rfl
theorem ca_i {x : Int32} {vs : List Value} {cs : List Nat} (h : (vs.map fun v => v.category) = cs) : ((Value.int x :: vs).map fun v => v.category) = 1 :: cs := by rw [List.map_cons, h]; rfl
theorem ca_l {x : Int64} {vs : List Value} {cs : List Nat} (h : (vs.map fun v => v.category) = cs) : ((Value.long x :: vs).map fun v => v.category) = 2 :: cs := by rw [List.map_cons, h]; rfl
theorem ca_r {x : Nat} {vs : List Value} {cs : List Nat} (h : (vs.map fun v => v.category) = cs) : ((rv_ x :: vs).map fun v => v.category) = 1 :: cs := by rw [List.map_cons, h, rv_cat]
/-- a store's neighbours -/
def lc_ (i : Nat) : List (Nat × Value) → Prop
  | [] => True
  | q :: l => (q.1 ≠ i ∧ (q.1 + 1 ≠ i ∨ q.2.category = 1)) ∧ lc_ i l
def lc2_ (i : Nat) : List (Nat × Value) → Prop
  | [] => True
  | q :: l => (q.1 ≠ i ∧ q.1 ≠ i + 1 ∧ (q.1 + 1 ≠ i ∨ q.2.category = 1)) ∧ lc2_ i l
theorem ne_ {a b : Nat} (h : (a == b) = false) : a ≠ b := by simpa using h
theorem lc_f {i : Nat} : ∀ {l : List (Nat × Value)}, lc_ i l → l.filter (fun q => !(q.1 == i) && !(q.1 + 1 == i && q.2.category == 2)) = l
  | [], _ => rfl
  | q :: l, h => by
    rw [List.filter_cons, lc_f h.2]
    have h1 : (q.1 == i) = false := by simpa using h.1.1
    have h2 : (q.1 + 1 == i && q.2.category == 2) = false := by
      rcases h.1.2 with a | a
      · simp [a]
      · simp [a]
    simp [h1, h2]
theorem lc2_f {i : Nat} : ∀ {l : List (Nat × Value)}, lc2_ i l → l.filter (fun q => !(q.1 == i) && (!(q.1 == i + 1) && !(q.1 + 1 == i && q.2.category == 2))) = l
  | [], _ => rfl
  | q :: l, h => by
    rw [List.filter_cons, lc2_f h.2]
    have h1 : (q.1 == i) = false := by simpa using h.1.1
    have h3 : (q.1 == i + 1) = false := by simpa using h.1.2.1
    have h2 : (q.1 + 1 == i && q.2.category == 2) = false := by
      rcases h.1.2.2 with a | a
      · simp [a]
      · simp [a]
    simp [h1, h2, h3]
/-! the picture moves -/
theorem tg_sI (σ : Hp) (c k r : Nat) (v : Int32) : tg_ (sI_ σ c k r v) = tg_ σ := rfl
theorem Pic_tag {G : GG_} {σ : Hp} {H : Heap} (hP : Pic_ G σ H) {r t : Nat} (ht : tg_ σ r = t + 1) : ∃ q, r = q + 1 := by
  cases r with
  | zero => rw [hP.1] at ht; cases ht
  | succ q => exact ⟨q, rfl⟩
theorem u3_ne {α : Type} {f : Nat → Nat → Nat → α} {c k r c' k' r' : Nat} {v : α} (h : r' ≠ r) : u3_ f c k r v c' k' r' = f c' k' r' := by simp [u3_, h]
theorem u2_ne {α : Type} {f : Nat → Nat → α} {r i r' i' : Nat} {v : α} (h : r' ≠ r) : u2_ f r i v r' i' = f r' i' := by simp [u2_, h]
/-- after a field's store -/
theorem Pic_put {G : GG_} {σ σ' : Hp} {H H1 : Heap} (hP : Pic_ G σ H) {q c : Nat} {x : kC_} (hc : kcl[c]? = some x) (ht : tg_ σ (q + 1) = c + 1) (hlo : G.1.heap.size ≤ q)
    (e1 : tg_ σ' = tg_ σ) (e2 : ln_ σ' = ln_ σ) (e3 : aI_ σ' = aI_ σ) (e4 : aL_ σ' = aL_ σ) (e5 : aR_ σ' = aR_ σ) (e6 : nx_ σ' = nx_ σ) (e7 : lo_ σ' = lo_ σ)
    (hz : H1.size = H.size) (ho : ∀ p, p ≠ q → H1[p]? = H[p]?) (hn : ∀ c' k r kd, r ≠ q + 1 → fv_ σ' c' k r kd = fv_ σ c' k r kd)
    (hq : OB_ G.1.heap.size q (G.2.2.1 c) x.2.2.1 (G.2.2.2.1 c) H1 (fun k => fv_ σ' c k (q + 1) (kd_ (x.2.2.2 k)))) : Pic_ G σ' H1 := by
  obtain ⟨h1, h2, h3, h4, h5, h6, h7, h8, h9, h10⟩ := hP
  refine ⟨by rw [e1]; exact h1, by rw [hz, e6]; exact h2, by rw [e7]; exact h3, by rw [hz]; exact h4, fun p hp => ?_, fun p => ?_, fun p => ?_, fun r hr => ?_, fun r hr => ?_, CS_to h10 (fun c' k => rv_inj (hn c' k 0 2 (by omega)))⟩
  · rw [ho p (by omega)]; exact h5 p hp
  · intro c' x' hc' ht'
    by_cases hp : p = q
    · subst hp
      rw [e1, ht] at ht'
      have hcc : c' = c := by omega
      subst hcc
      cases hc.symm.trans hc'
      exact hq
    · rw [e1] at ht'
      exact ((h6 p c' x' hc' ht').kept (ho p hp)).to (fun k _ => (hn c' k (p + 1) _ (by omega)).symm)
  · intro t ht1 ht2 ht3
    rw [e1] at ht3
    by_cases hp : p = q
    · subst hp
      have := kcl_lt hc
      omega
    · obtain ⟨cell, g1, g2, g3, g4, g5, g6⟩ := h7 p t ht1 ht2 ht3
      refine ⟨cell, by rw [ho p hp]; exact g1, g2, g3, by rw [e2]; exact g4, fun j hj => ?_, g6⟩
      rw [e2] at hj
      rw [g5 j hj]
      simp only [av_, e3, e4, e5]
  · rw [e6]; rw [e1] at hr; exact h8 r hr
  · rw [e7]; rw [e1] at hr; exact h9 r hr
/-- after an array's store -/
theorem Pic_ast {G : GG_} {σ σ' : Hp} {H H1 : Heap} (hP : Pic_ G σ H) {q t : Nat} (ht0 : 100 ≤ t) (ht : tg_ σ (q + 1) = t) (hlo : G.1.heap.size ≤ q)
    (e1 : tg_ σ' = tg_ σ) (e2 : ln_ σ' = ln_ σ) (e3 : fI_ σ' = fI_ σ) (e4 : fL_ σ' = fL_ σ) (e5 : fR_ σ' = fR_ σ) (e6 : nx_ σ' = nx_ σ) (e7 : lo_ σ' = lo_ σ)
    (hz : H1.size = H.size) (ho : ∀ p, p ≠ q → H1[p]? = H[p]?) (hn : ∀ t' r j, r ≠ q + 1 → av_ σ' t' r j = av_ σ t' r j)
    (hq : AR_ G H1 q t (ln_ σ (q + 1)) (av_ σ' t (q + 1))) : Pic_ G σ' H1 := by
  obtain ⟨h1, h2, h3, h4, h5, h6, h7, h8, h9, h10⟩ := hP
  refine ⟨by rw [e1]; exact h1, by rw [hz, e6]; exact h2, by rw [e7]; exact h3, by rw [hz]; exact h4, fun p hp => ?_, fun p => ?_, fun p => ?_, fun r hr => ?_, fun r hr => ?_, CS_to h10 (fun c' k => by rw [e5])⟩
  · rw [ho p (by omega)]; exact h5 p hp
  · intro c' x' hc' ht'
    rw [e1] at ht'
    by_cases hp : p = q
    · subst hp
      have := kcl_lt hc'
      omega
    · exact ((h6 p c' x' hc' ht').kept (ho p hp)).to (fun k _ => by simp only [fv_, e3, e4, e5])
  · intro t' ht1 ht2 ht3
    rw [e1] at ht3
    by_cases hp : p = q
    · subst hp
      rw [ht] at ht3
      subst ht3
      rw [e2]
      exact hq
    · obtain ⟨cell, g1, g2, g3, g4, g5, g6⟩ := h7 p t' ht1 ht2 ht3
      refine ⟨cell, by rw [ho p hp]; exact g1, g2, g3, by rw [e2]; exact g4, fun j hj => ?_, g6⟩
      rw [e2] at hj
      rw [g5 j hj, hn t' (p + 1) j (by omega)]
  · rw [e6]; rw [e1] at hr; exact h8 r hr
  · rw [e7]; rw [e1] at hr; exact h9 r hr
