section
variable {p : Program} {l : Launch} {e : Env} {R : Room} {s : State} {m : MethodId} {args : Array Value} {below : List Frame} {meth : Method} {c : Code} {H : Heap} {locs : List Loc} {cells slots : Nat} {Q : State → Prop}
variable {cc : ByteArray} {pc : Nat} {ls : Array Slot} {rest : List Value} {G : GG_} {σ : Hp} {nL : Nat} {own : String}
variable {y : MethodName} {bytes : ByteArray} {maxL mc ms n index : Nat} {ret : Option FieldType} {ws : List Cond} {rm : Room} {Qc : Array Value → State → Outcome → State → Prop} {As st0 : List Value} {hh : List (Nat × Nat × Nat × Nat)}
/-- a static method with handlers -/
theorem p_runSW (X : CX_ G p s m args c cc nL own) (hP : Pic_ G σ H) (hM : Met l y ws rm (PC_ G As σ) Qc mc ms (FR_ G)) (hcw : Cond.codeWith y bytes maxL ret hh ∈ lw_all) (hws : ws = wsW_ y bytes maxL ret hh) (hlink : Cond.methodLink own index y ∈ lw_all) (hstat : Cond.static y ∈ lw_all) (hini : Cond.initialized y.cls ∈ lw_all)
    (hrc : rm.cells = mc) (hrs : rm.slots = ms) (hR : rm.frames + 1 ≤ R.frames ∧ 8 + (maxL + 11) + rm.locals ≤ R.locals) (hd : y.cls ≠ "java/lang/invoke/MethodHandle" ∧ y.cls ≠ "java/lang/invoke/VarHandle" ∧ (parseMethodDescriptor y.desc).map (fun d => d.parameters.length) = some n)
    (hn : As.length = n) (hsize : ls.size = nL) (hstack : st0 = As.reverse ++ rest) (hW8 : (rest.map fun v => v.category).sum ≤ 8) (hdg : decode cc pc = .ok (.invokestatic index, 3)) (hf : cells + mc ≤ R.cells ∧ slots + ms ≤ R.slots) :
    va_Run p l e R s m args below meth c H locs cells slots mc ms (F0 m pc ls st0) rest (Qc As.toArray) (FR_ G) := by
  obtain ⟨⟨hexec, hb, hml, hown, hts⟩, hW, hG⟩ := id X
  have hK : Back l R p e below s args y 3 8 (PreOf R mc ms (PC_ G As σ)) (PostOf Qc mc ms (FR_ G)) :=
    va_backW (hh := hh) (bytes := bytes) (maxL := maxL) (ret := ret) hM PC_blind hrc hrs hR.1 hR.2 (by rw [hws]; exact pay_in hts (lw_methW hcw)) (by rw [hws]; exact List.mem_cons_self) (fun a' U hW => word_at hW (Or.inl (by first | rfl | simp [Cond.onTables, Cond.keeps, Cond.steady])) (hts _ hini))
  obtain ⟨mk, methM, cM, hnamed, hmethM, -, -, -, -, -, -, hsigM⟩ := Cond.codeWith_spec (hts _ hcw)
  have hstatic : methM.isStatic = true := Cond.static_spec hnamed hmethM (hts _ hstat)
  obtain ⟨kP, hkP, -⟩ := className_of_methodNamed hnamed
  have hinitP : kP.init = .initialized := Cond.initialized_spec (findClass_of_methodNamed hnamed) hkP (hts _ hini)
  have hlen : As.length = methM.sig.parameters.length := by
    have h2 := hd.2.2
    rw [hsigM] at h2
    rw [hn]
    exact (Option.some.inj h2).symm
  intro T hT XT
  have hdg' : decode c.code (F0 m pc ls st0).pc = .ok (.invokestatic index, 3) := by rw [hb]; exact hdg
  obtain ⟨vm₁, X₁, hstep₁⟩ := XT.invokestatic hexec hown (hts _ hlink) hnamed hmethM hstatic hkP hinitP ⟨hd.1, hd.2.1⟩ (g := F0 m pc ls st0) rfl (argsL := As) (rest := rest) hlen hstack hdg'
  obtain ⟨v, ⟨U', l2, c2, s2⟩, X', ⟨g', mk', t, L, e1, e2, hq, h1, hL, h2, h3⟩, hsteps⟩ := hK m meth c ⟨T.setVm vm₁, locs, cells, slots⟩ { F0 m pc ls st0 with stack := rest } (.invokestatic index) mk As.toArray X₁ rfl (hsize.trans hml.symm) hdg' (lv_room hW8) (X₁.named hnamed) ⟨hf.1, hf.2, PC_of hP X.2.1 hT X₁.warmed⟩
  dsimp only [Pt.U, Pt.locs, Pt.cells, Pt.slots] at X' e1 e2 h1 h2 h3 hsteps
  subst h1; subst h2; subst h3
  exact ⟨v, (T.setVm vm₁).calling g' mk' As.toArray, t, U', L, hT, X', hL, e1, e2, hq, fun target h => hstep₁ _ fun acts => by rw [doInvoke_state]; exact hsteps.trans h⟩
end
theorem sw20 (y : Int32) : (y < 0 ∨ (19 : Int32) < y) ∨ y = 0 ∨ y = 1 ∨ y = 2 ∨ y = 3 ∨ y = 4 ∨ y = 5 ∨ y = 6 ∨ y = 7 ∨ y = 8 ∨ y = 9 ∨ y = 10 ∨ y = 11 ∨ y = 12 ∨ y = 13 ∨ y = 14 ∨ y = 15 ∨ y = 16 ∨ y = 17 ∨ y = 18 ∨ y = 19 := by
  by_cases h : y < 0 ∨ (19 : Int32) < y
  · exact Or.inl h
  · refine Or.inr ?_
    have e := Int32.ofInt_toInt y
    rw [not_or, Int32.not_lt, Int32.not_lt, Int32.le_iff_toInt_le, Int32.le_iff_toInt_le] at h
    have h1 : (0 : Int) ≤ y.toInt := h.1
    have h2 : y.toInt ≤ 19 := h.2
    generalize y.toInt = z at e h1 h2
    subst e
    have : z = 0 ∨ z = 1 ∨ z = 2 ∨ z = 3 ∨ z = 4 ∨ z = 5 ∨ z = 6 ∨ z = 7 ∨ z = 8 ∨ z = 9 ∨ z = 10 ∨ z = 11 ∨ z = 12 ∨ z = 13 ∨ z = 14 ∨ z = 15 ∨ z = 16 ∨ z = 17 ∨ z = 18 ∨ z = 19 := by omega
    rcases this with rfl | rfl | rfl | rfl | rfl | rfl | rfl | rfl | rfl | rfl | rfl | rfl | rfl | rfl | rfl | rfl | rfl | rfl | rfl | rfl <;> decide
theorem sw_out {y : Int32} (h : y < 0 ∨ (19 : Int32) < y) : y.toInt < 0 ∨ 19 < y.toInt := by
  rcases h with h | h
  · exact Or.inl (Int32.lt_iff_toInt_lt.mp h)
  · exact Or.inr (Int32.lt_iff_toInt_lt.mp h)
