/-- a cell that nobody looks at again: an exception -/
def eT_ (σ : Hp) : Hp := (σ.1, σ.2.1, σ.2.2.1, σ.2.2.2.1, σ.2.2.2.2.1, σ.2.2.2.2.2.1, σ.2.2.2.2.2.2.1, σ.2.2.2.2.2.2.2.1, (nx_ σ + 1, bc_ σ - 1, bs_ σ - 6, lo_ σ))
theorem Pic_eT {G : GG_} {σ : Hp} {H H1 : Heap} (hP : Pic_ G σ H) (hz : H1.size = H.size + 1) (ho : ∀ q, q < H.size → H1[q]? = H[q]?) : Pic_ G (eT_ σ) H1 := by
  obtain ⟨g1, g2, g3, g4, g5, g6, g7, g8, g9, g10⟩ := hP
  have lt : ∀ q t, t ≠ 0 → tg_ σ (q + 1) = t → q < H.size := fun q t ht h => by have := g8 (q + 1) (by rw [h]; exact ht); omega
  refine ⟨g1, ?_, g3, by omega, fun q hq => (ho q (by omega)).trans (g5 q hq), fun q c x hx ht => ?_, fun q t h1 h2 ht => ?_, fun r hr => ?_, g9, g10⟩
  · show H1.size + 1 = nx_ σ + 1
    omega
  · have h := g6 q c x hx ht
    have hl := lt q (c + 1) (by omega) ht
    obtain ⟨cell, k1, k2⟩ := h
    exact ⟨cell, (ho q hl).trans k1, k2⟩
  · have h := g7 q t h1 h2 ht
    have hl := lt q t (by omega) ht
    obtain ⟨cell, k1, k2⟩ := h
    exact ⟨cell, (ho q hl).trans k1, k2⟩
  · show r < nx_ σ + 1
    have := g8 r hr
    omega
section
variable {p : Program} {l : Launch} {e : Env} {R : Room} {s : State} {m : MethodId} {args : Array Value} {below : List Frame} {meth : Method} {c : Code}
variable {cc : ByteArray} {G : GG_} {σ : Hp} {nL : Nat} {own : String}
theorem th_w (X : CX_ G p s m args c cc nL own) {w : Cond} (hw : w ∈ lw_tbl) (hk : (w.onTables && w.keeps) = true) : w.before args s = true := word_at (a' := args) X.2.1 (Or.inl hk) (X.2.2.1 _ hw)
theorem th_a (X : CX_ G p s m args c cc nL own) {w : Cond} (hw : w ∈ lw_all) : w.before args s = true := X.1.2.2.2.2 _ hw
theorem th_d (X : CX_ G p s m args c cc nL own) {y : MethodName} (hw : Cond.declares y ∈ lw_tbl) : (Cond.declares y).before args s = true := by
  have h1 : (Cond.declares y).before #[Value.ref G.2.1] (G.1.setVm s.vm) = true := by
    rw [Cond.declares_setVm X.2.1.alike]
    exact X.2.2.1 _ hw
  have e := Cond.onTables_vm (A := #[Value.ref G.2.1]) (A' := args) (U := G.1) (U' := s) s.vm (Cond.declares y) rfl
  have hs : s.setVm s.vm = s := rfl
  rw [hs] at e
  rw [← e]
  exact h1
theorem th_c (X : CX_ G p s m args c cc nL own) {A B : String} (hw : Cond.castable A B ∈ lw_tbl) : (Cond.castable A B).before args s = true := by
  obtain ⟨c3, c4, h3, h4, h5⟩ := Cond.castable_spec (X.2.2.1 _ hw)
  have hal := X.2.1.alike
  simp [Cond.before, Cond.holds, Cond.value, hal.findClass, h3, h4, hal.assignable, h5]
theorem th_ls (X : CX_ G p s m args c cc nL own) (hP : Pic_ G σ s.heap) {C n d : String} (hw : Cond.laysStatic C n d ∈ lw_tbl) : (Cond.laysStatic C n d).before args s = true := by
  obtain ⟨c0, k, i, f, a, cell, hc, hi, hst, ha, hcell, hs, hcls, hlt, hty⟩ := Cond.laysStatic_spec (X.2.2.1 _ hw)
  have hal := X.2.1.alike
  obtain ⟨k', hi', hek⟩ := State.fieldFound?_setVm (s := G.1) hal hi
  have hi2 : s.fieldFound? C n d = some (c0, k', i, f) := by simpa only [State.fieldFound?, State.vm_setVm] using hi'
  exact Cond.laysStatic_of (s := s) (by rw [hal.findClass]; exact hc) hi2 hst (by rw [hek]; exact ha) ((hP.2.2.2.2.1 a (Array.getElem?_eq_some_iff.mp hcell).1).trans hcell) hs hcls hlt (by rw [hek]; exact hty)
theorem th_rs (X : CX_ G p s m args c cc nL own) (hP : Pic_ G σ s.heap) {C n d : String} (hZ : va_Zq C n d (fun q => G.1.heap.size ≤ q) G.1 G.1.heap) : (Cond.isRef (.static C n d)).before args s = true := by
  have hal := X.2.1.alike
  have hZ2 := va_Zq.kept (va_Zq.moved hal hZ) (H1 := s.heap) (fun a ha _ => hP.2.2.2.2.1 a ha)
  have key : ∀ v : Value, (v = .null ∨ ∃ t, v = .ref t) → va_Z C n d v (fun q => G.1.heap.size ≤ q) s s.heap → (Cond.isRef (.static C n d)).before args s = true := by
    intro v hv hz
    obtain ⟨cf, kf, fi, f, a, cel, h1, h2, h3, h4, h5, h6, h7, h8⟩ := hz
    have ev : (Term.static C n d).eval args s none [] s = some v := by
      simp [Term.eval, State.fieldNamed?, h1, h2, h4, h5, h6, h7]
    rcases hv with rfl | ⟨t, rfl⟩ <;> simp [Cond.before, Cond.holds, Cond.value, ev]
  rcases hZ2 with h | ⟨t, h⟩
  · exact key _ (Or.inl rfl) h
  · exact key _ (Or.inr ⟨t, rfl⟩) h
set_option maxRecDepth 100000 in
theorem th_own (X : CX_ G p s m args c cc nL own) (hP : Pic_ G σ s.heap) : ∀ a ∈ Bundle.ownAtoms0 "WriteOnceDisc" 276 NSE_ ["java/lang/RuntimeException", "java/lang/Exception"], a.before args s = true := by
  have k : ∀ {w : Cond} {L : List Cond}, w.before args s = true → (∀ a ∈ L, a.before args s = true) → ∀ a ∈ w :: L, a.before args s = true := by
    intro w L h1 h2 a ha
    rcases List.mem_cons.mp ha with rfl | ha
    · exact h1
    · exact h2 a ha
  refine k (th_a X q109) (k (th_a X q1212) (k (th_a X q1221) (k (th_a X q1223) (k (th_a X q1226) (k (th_a X q1228) (k (th_a X q1213) (k (th_a X q1214) (k (th_a X q119) (k (th_a X q120) ?_)))))))))
  refine k (th_a X q1215) (k (th_a X q1220) (k (th_a X q1224) (k (th_a X q1240) (k (th_a X q1202) (k (th_a X q1241) (k (th_a X q1204) (k (th_a X q1242) (k (th_a X q1206) (k (th_a X q1216) ?_)))))))))
  refine k (th_ls X hP q1217) (k (th_a X q1218) (k (th_ls X hP q1219) (k (th_a X q1208) ?_)))
  refine k (th_a X q1230) (k (th_a X q1231) (k (th_a X q1232) (k (th_a X q1233) (k (th_d X q1193) ?_))))
  refine k (th_a X q1233) (k (th_a X q1234) (k (th_a X q1235) (k (th_a X q1236) (k (th_d X q1195) ?_))))
  refine k (th_a X q1236) (k (th_a X q1237) (k (th_a X q1238) (k (th_a X q1213) (k (th_d X q1197) ?_))))
  refine k (th_a X q1229) (k (th_a X q1191) (k (th_c X q1192) (k (th_a X q1199) (k (th_a X q1200) (k (th_a X q1201) (k (th_a X q1203) (k (th_a X q1205) (k (th_a X q1207) ?_))))))))
  refine k (th_rs X hP X.2.2.2.2.2.2.2.2.2.2.1) (k (th_rs X hP X.2.2.2.2.2.2.2.2.2.1) (k ?_ (k (th_a X q1210) (k (th_a X q1209) ?_))))
  · first | exact th_a X q1239 | exact th_a X q1211
  · intro a ha; cases ha
/-- need(false) throws -/
def wTX1_need (x0 : Int32) (σ : Hp) (post : Hp → Prop) : Prop := x0 = 0 ∧ 1 ≤ bc_ σ ∧ 6 ≤ bs_ σ ∧ post (eT_ σ)
theorem metTX1_need (l : Launch) (G : GG_) (mc ms : Nat) (x0 : Int32) (σ : Hp) (post : Hp → Prop) (hfl : l.flags = pinnedFlags ++ [noTraceFlag]) (hG : GOK_ G) (hf : wTX1_need x0 (bu_ σ mc ms) post) : MetT l yX1_need (ws_ yX1_need cX1_need 1 none) { frames := 6, cells := mc, slots := ms, locals := 100 } (PC_ G [.int x0] (bu_ σ mc ms)) (QT_ G post) mc ms (FR_ G) := by
  refine MetT.ofW (cc := cX1_need) (maxL := 1) (ret := none) (by decide) rfl ?_
  intro p e s m args below meth c s₁ B hml hv
  obtain ⟨rfl, hP, hW⟩ := hv
  have hts0 := atoms_spec (ws := ws_ yX1_need cX1_need 1 none) B.pre
  have hts : ∀ w ∈ lw_all, w.before _ s = true := fun w h => hts0 w (List.mem_cons_of_mem _ h)
  obtain ⟨meth', c', hm', hc', -, -, -, -, hemp, -⟩ := Cond.code_spec B.named (hts0 _ List.mem_cons_self)
  cases B.method.symm.trans hm'
  obtain ⟨h0, hb1, hb2, hpost⟩ := hf
  have hb1 : 1 ≤ mc := hb1
  have hb2 : 6 ≤ ms := hb2
  rw [lg_entry_eq]
  have hl := en_entry [.int x0] [1] (n := 1) (ca_i ca_n) (by decide)
  have hx := B.exec
  have hb := B.bytes
  have hown := findClass_of_methodNamed B.named
  have X : CX_ G p s m _ c cX1_need 1 RX1 := ⟨⟨hx, hb, hml, hown, hts⟩, hW, hG⟩
  refine lv_iload_n hx hb dX1_need_0 rfl (lv_at hl 0 rfl) ?_
  refine lv_if_ne (tgt := 12) hx hb dX1_need_1 (by decide) (fun c1 => absurd h0 c1) (fun c1 => ?_)
  refine W.newc hx hb hown (hts _ q1190) (hts _ q1191) (hts _ q112) rfl dX1_need_4 (by show 0 + 1 ≤ mc; omega) (by show 0 + 6 ≤ ms; omega) (fun cC kC h1 h2 h3 h4 => ?_)
  refine lv_dup hx hb dX1_need_7 rfl ?_
  intro T hT XT
  have hcode := XT.code
  rw [hc'] at hcode
  cases hcode
  have hempty : c.exceptionTable = #[] := by simpa using hemp
  obtain ⟨U, u1, u2, u3, u4, u5, ce, u6, u7⟩ := XT.ctorThrow0 hx (Launch.traces_off hfl B.admits) (own := "WriteOnceDisc") (cls := NSE_) (names := ["java/lang/RuntimeException", "java/lang/Exception"]) (ic := 276) hown (by decide) (by decide) (th_own X hP) (fun x hx => by cases hx) (a := s.heap.size) h1 h2 (by rw [hT]; simp [freshCell]) (Nat.le_refl _)
    (g := F0 m 8 _ [.ref s.heap.size, .ref s.heap.size]) rfl (by rw [hml]; exact hl.1) rfl rfl (rest := []) rfl (by rw [hb]; exact dX1_need_8) (by rw [hb]; exact dX1_need_11) (by rw [hempty]; intro x hx; cases hx) (show 2 + 3 < 6 by decide) (show 2 * 0 + 1 + (13 * 3 + 41) ≤ 100 by decide) B.notSynchronized
  have hsz : U.heap.size = s.heap.size + 1 := by
    have z1 := u5.2.2.1
    have z2 := (Array.getElem?_eq_some_iff.mp u6).1
    have z1 : U.heap.size ≤ s.heap.size + (0 + 1) := z1
    omega
  have hold : ∀ q, q < s.heap.size → U.heap[q]? = s.heap[q]? := by
    intro q hq
    obtain ⟨c1, k1, k2, k3, k4⟩ := u5.2.2.2.2.2 q s.heap[q] (Array.getElem?_eq_getElem hq)
    have k1 : U.heap[q]? = some c1 := k1
    rw [k1, Array.getElem?_eq_getElem hq, k2]
    have : c1.slots = s.heap[q].slots := Array.ext_getElem? fun i => k4 i (by intro h; cases h)
    rw [this]
  refine ⟨U, u1, .threw s.heap.size, u2, u3, ⟨s.heap.size, _, rfl, hpost, Pic_eT hP hsz hold, State.WarmedH.trans hW u4, ce, u6, by rw [u7.vm]; rfl, ?_⟩, [], ⟨⟨_, rfl⟩, u4, u5.mono (by omega) (by omega)⟩, LO_nil G⟩
  rw [← hW.alike.findClass]
  exact u7.cls
end
theorem BU_callT {R : Room} {σ : Hp} {cells slots k n mc ms : Nat} (hB : BU_ R σ cells slots) (h1 : k ≤ bc_ σ) (h2 : n ≤ bs_ σ) (h : R.cells = mc ∧ R.slots = ms) : cells + k ≤ mc ∧ slots + n ≤ ms := by
  have := BU_call hB h1 h2
  rw [h.1, h.2] at this
  exact this
