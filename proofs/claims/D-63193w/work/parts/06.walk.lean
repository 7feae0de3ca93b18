/-! what the printed walks are stated with -/
def BN_ : Hp → Nat → Nat → Prop := fun _ k n => k = 0 ∧ n = 0
def WG_ (G : GG_) (p : Program) (l : Launch) (e : Env) (R : Room) (s : State) (m : MethodId) (args : Array Value) (below : List Frame) (meth : Method) (c : Code) (Q : State → Prop) (B : Hp → Nat → Nat → Prop) (nL pc : Nat) (lv : List (Nat × Value)) (stk : List Value) (σ : Hp) : Prop :=
  ∀ (H : Heap) (locs : List Loc) (cells slots : Nat) (ls : Array Slot), Pic_ G σ H → LO_ G locs → B σ cells slots → lv_has ls nL lv → W p l e R s m args below meth c H locs cells slots Q (F0 m pc ls stk)
def MX_ (G : GG_) (p : Program) (R : Room) (s : State) (m : MethodId) (args : Array Value) (meth : Method) (c : Code) (cc : ByteArray) (nL : Nat) (own : String) (ret : Option FieldType) (F L mc ms : Nat) (nm : String) : Prop :=
  CX_ G p s m args c cc nL own ∧ meth.locks = false ∧ meth.sig.returnType = ret ∧ F ≤ R.frames ∧ L ≤ R.locals ∧ (R.cells = mc ∧ R.slots = ms) ∧ meth.name = nm
/-- an int fits a small type -/
def nr_ (ty : FieldType) (v : Int32) : Prop := narrow ty (.int v) = .int v
def pz_ (ty : FieldType) (v : Int32) : Prop := narrow ty (.int v) = .int v ∧ fits ty (.int v) = true
theorem nr_0 : nr_ .boolean 0 := rfl
theorem nr_1 : nr_ .boolean 1 := rfl
theorem pz_0 : pz_ .boolean 0 := ⟨rfl, by decide⟩
theorem pz_1 : pz_ .boolean 1 := ⟨rfl, by decide⟩
section
variable {p : Program} {l : Launch} {e : Env} {R : Room} {s : State} {m : MethodId} {args : Array Value} {below : List Frame} {meth : Method} {c : Code} {H : Heap} {locs : List Loc} {cells slots : Nat} {Q : State → Prop}
variable {cc : ByteArray} {pc : Nat} {ls : Array Slot} {rest : List Value} {G : GG_} {σ : Hp} {nL : Nat} {own : String}
theorem p_iincc (hexec : p.tables.exec = Jvm.exec) (hb : c.code = cc) {i : Nat} {n : Int} {x k : Int32} {lv : List (Nat × Value)} (hk : Int32.ofInt n = k) (hdg : decode cc pc = .ok (.iinc i n, 3)) (h : lv_has ls nL ((i, .int x) :: lv)) (hn : i < nL) (hl : lc_ i lv)
    (kk : ∀ y : Int32, y = x + k → ∀ ls' : Array Slot, lv_has ls' nL ((i, Value.int y) :: lv) → W p l e R s m args below meth c H locs cells slots Q (F0 m (pc + 3) ls' rest)) : W p l e R s m args below meth c H locs cells slots Q (F0 m pc ls rest) :=
  p_iinc hexec hb hdg h (by rw [hk]) hn hl (kk _ rfl)
theorem p_topr {x : Nat} (k : ∀ y : Nat, y = x → W p l e R s m args below meth c H locs cells slots Q (F0 m pc ls (rv_ y :: rest))) : W p l e R s m args below meth c H locs cells slots Q (F0 m pc ls (rv_ x :: rest)) := k x rfl
theorem p_nmP {C : Prop} (hP : Pic_ G σ H) (k : ∀ σ' : Hp, σ' = σ → Pic_ G σ' H → C) : C := k _ rfl hP
theorem p_nmPB {C : Prop} (hP : Pic_ G σ H) (hB : BU_ R σ cells slots) (k : ∀ σ' : Hp, σ' = σ → Pic_ G σ' H → BU_ R σ' cells slots → C) : C := k _ rfl hP hB
theorem p_objInit (X : CX_ G p s m args c cc nL own) (hP : Pic_ G σ H) {idx r t : Nat} (ht : tg_ σ r = t + 1) (hlink : Cond.methodLink own idx Lib.objectInit ∈ lw_all) (hinst : Cond.instanceMethod Lib.objectInit ∈ lw_all) (hcode : Cond.code Lib.objectInit ⟨#[0xb1]⟩ 1 none ∈ lw_all) (hsize : ls.size = nL) (hd : decode cc pc = .ok (.invokespecial idx, 3)) (hframes : 1 ≤ R.frames) (hW8 : (rest.map fun v => v.category).sum ≤ 8) (hlocals : 20 ≤ R.locals)
    (kk : W p l e R s m args below meth c H locs cells slots Q (F0 m (pc + 3) ls rest)) : W p l e R s m args below meth c H locs cells slots Q (F0 m pc ls (rv_ r :: rest)) := by
  obtain ⟨⟨hx, hb, hml, hown, hts⟩, -, -⟩ := X
  obtain ⟨q, rfl⟩ := Pic_tag hP ht
  exact W.objInit hx hb hown (hts _ hlink) (hts _ hinst) (hts _ hcode) rfl (by rw [hml]; exact hsize) rfl hd hframes (by have := lv_room (m := m) (pc := pc) (ls := ls) (rest := rv_ (q + 1) :: rest) hW8; omega) kk
theorem BU_call {mc ms : Nat} (hB : BU_ R σ cells slots) (h1 : mc ≤ bc_ σ) (h2 : ms ≤ bs_ σ) : cells + mc ≤ R.cells ∧ slots + ms ≤ R.slots := by
  obtain ⟨a, b⟩ := hB
  exact ⟨by omega, by omega⟩
theorem BU_back {mc ms : Nat} {τ : Hp} (hB : BU_ R σ cells slots) (h1 : mc ≤ bc_ σ) (h2 : ms ≤ bs_ σ) : BU_ R (bu_ τ (bc_ σ - mc) (bs_ σ - ms)) (cells + mc) (slots + ms) := by
  obtain ⟨a, b⟩ := hB
  exact ⟨by show cells + mc + (bc_ σ - mc) ≤ _; omega, by show slots + ms + (bs_ σ - ms) ≤ _; omega⟩
theorem BU_in {mc ms : Nat} (h : R.cells = mc ∧ R.slots = ms) : BU_ R (bu_ σ mc ms) 0 0 := ⟨by rw [h.1]; exact Nat.le_of_eq (Nat.zero_add _), by rw [h.2]; exact Nat.le_of_eq (Nat.zero_add _)⟩
theorem BU_le (hB : BU_ R σ cells slots) {mc ms : Nat} (h : R.cells = mc ∧ R.slots = ms) : cells ≤ mc ∧ slots ≤ ms := by
  obtain ⟨a, b⟩ := hB
  rw [h.1] at a
  rw [h.2] at b
  exact ⟨by omega, by omega⟩
end
