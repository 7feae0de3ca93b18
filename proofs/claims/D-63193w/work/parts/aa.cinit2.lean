/-! the class is made, all of it -/
section
variable {S : Prop} {W : Nat → Prop} {D n : Nat} {σ0 σ σ' τ s s' s'' : Hp} {q c tk r m md x : Nat} {t t' : TT} {rf : Nat → Nat} {R : List Nat} {B St : Nat → Nat} {Df : Nat → Bool}
/-- something new is made and hung on x -/
theorem hang (hx : x < nx_ s) (k : Kp False (fun _ => False) s s') {k0 v : Nat} (e : s'' = sR_ s' 0 k0 x v) : Kp False (fun z => z = x) s s'' ∧ (∀ k', fR_ s'' 0 k' x = if k' = k0 then v else fR_ s 0 k' x) ∧ tg_ s'' x = tg_ s x ∧ fI_ s'' 0 9 x = fI_ s 0 9 x := by
  refine ⟨by rw [e]; exact Kp.sR' (k.mono (fun z => z) (fun _ _ z => z.elim)) (Or.inl rfl), fun k' => ?_, by rw [e]; exact k.t hx, by rw [e]; exact k.i hx (fun z => z) (by omega)⟩
  rw [e, afR_sR]
  by_cases z : k' = k0
  · rw [z, u3_e, if_pos rfl]
  · rw [u3_k z, if_neg z, k.r hx (fun z => z)]
theorem new0 {w : Nat} (k : Kp False (fun _ => False) s s') (g : Kp False (fun z => z = w) s' s'') (hw : nx_ s ≤ w) : Kp False (fun _ => False) s s'' := k.trans g (fun z hz e => by omega)
/-- a reader is made and hung on x -/
theorem c_hangR {k0 : Nat} {P : Hp → Prop} (fs : WF D s) (ns : nx_ s = r) (xr : x < r) (hrD : r + 3 ≤ D) (los : lo_ s < x) (tx : tg_ s x = 1) (bcs : 4 ≤ bc_ s) (bss : 75 ≤ bs_ s) (f2 : fR_ s 0 2 x = x + 10)
    (hP : ∀ s37, WF D s37 → Kp False (fun z => z = x) s s37 → (∀ k', fR_ s37 0 k' x = if k' = k0 then r else fR_ s 0 k' x) → tg_ s37 x = tg_ s x → fI_ s37 0 9 x = fI_ s 0 9 x → RdS D s37 r (x + 10) [] 0 → (∀ i, aR_ s37 (r + 2) i = 0) → nx_ s37 = r + 4 → bc_ s37 = bc_ s - 4 → bs_ s37 = bs_ s - 75 → P s37) :
    1 ≤ bc_ s ∧ (11 ≤ bs_ s ∧ (∀ σ27, σ27 = mO_ s 7 11 → (tg_ σ27 x = 1 ∧ (tg_ σ27 (nx_ s) = 8 ∧ (∃ mc30 ms31 : Nat, (mc30 ≤ bc_ σ27 ∧ (ms31 ≤ bs_ σ27 ∧ (wX8_init (nx_ s) (fR_ σ27 0 2 x) (bu_ σ27 mc30 ms31) (fun σ34 => (∀ σ35, σ35 = bu_ σ34 (bc_ σ27 - mc30) (bs_ σ27 - ms31) → (tg_ σ35 x = 1 ∧ (∀ σ37, σ37 = sR_ σ35 0 k0 x (nx_ s) → P σ37)))))))))))) := by
  refine ⟨by omega, by omega, fun s27 e27 => ?_⟩
  have k27 : Kp False (fun _ => False) s s27 := by rw [e27]; exact Kp.mO' Kp.refl
  have F_s27 : WF D s27 := by rw [e27]; exact fs.mO
  have n27 : nx_ s27 = r + 1 := by rw [e27]; show nx_ s + 1 = _; omega
  have t27 : tg_ s27 r = 8 := by rw [e27, ← ns, atg_mO, u1_e]
  have b27 : bc_ s27 = bc_ s - 1 ∧ bs_ s27 = bs_ s - 11 := by rw [e27]; exact ⟨rfl, rfl⟩
  have r27 : fR_ s27 0 2 x = x + 10 := by rw [k27.r (by omega) (fun z => z)]; exact f2
  rw [ns, r27]
  refine ⟨by rw [k27.t (by omega)]; exact tx, t27, 3, 64, by omega, by omega, c_rinit (σ := bu_ s27 3 64) F_s27 t27 n27 (by show lo_ s27 < _; rw [k27.1]; omega) hrD (Nat.le_refl _) (Nat.le_refl _) (fun s34 f34 k34 h34 z34 n34 s35 e35 => ?_)⟩
  have k34' : Kp False (fun z => z = r) s27 s34 := k34
  have k35 : Kp False (fun _ => False) s s35 := by rw [e35]; exact new0 k27 k34' (by omega)
  refine ⟨by rw [k35.t (by omega)]; exact tx, fun s37 e37 => ?_⟩
  obtain ⟨K37, F37, T37, I37⟩ := hang (by omega) k35 e37
  have f35 : WF D s35 := by rw [e35]; exact f34
  have kx : Kp False (fun z => z = x) s35 s37 := by rw [e37]; exact Kp.sR' Kp.refl (Or.inl rfl)
  have h35 : RdS D s35 r (x + 10) [] 0 := by rw [e35]; exact h34
  have tx35 : tg_ s35 x = 1 := by rw [k35.t (by omega)]; exact tx
  refine hP s37 (by rw [e37]; exact f35.sR (by decide)) K37 F37 T37 I37 (h35.ow f35 kx (by omega) (fun z a b => by omega) (fun z t y => by rw [y, tx35] at t; cases t) (fun z y t => by rw [y, tx35] at t; cases t)) (fun i => by rw [e37]; show aR_ s35 _ i = 0; rw [e35]; exact z34 i) (by rw [e37, e35]; exact n34) (by rw [e37, e35]; show bc_ s27 - 3 = _; omega) (by rw [e37, e35]; show bs_ s27 - 64 = _; omega)
theorem rk_x (fs : WF D s) (tx : tg_ s x = 1) (x0 : 0 < x) (xr : x < r) (h : RdS D s r m [] 0) (kk : Kp False (fun z => z = x) s s') : RdS D s' r m [] 0 := h.ow fs kk (by omega) (fun z a b => by omega) (fun z t y => by rw [y, tx] at t; cases t) (fun z y t => by rw [y, tx] at t; cases t)
/-- what was made is the state at first -/
theorem c_initEnd (f70 : WF D s) (n70 : nx_ s = x + 31) (hlo : lo_ s < x) (hD : x + 30 ≤ D) (hx70 : CX s x (x + 10) (x + 14) (x + 6) 0) (hb70 : CB D s x) (hp70 : PwA s (x + 1) (fun _ => 0, fun _ => 0, -1, 0, false)) (hm70 : MdA D s (x + 10) n (fun _ => 0) (fun _ => 0) (fun _ => false)) (ho70 : MdA D s (x + 14) n (fun _ => 0) (fun _ => 0) (fun _ => false)) (ht70 : CT D s x (x + 6) (treeOf [rootF]))
    (r18 : RdS D s (x + 18) (x + 10) [] 0) (r22 : RdS D s (x + 22) (x + 10) [] 0) (r26 : RdS D s (x + 26) (x + 10) [] 0) (z18 : ∀ i, aR_ s (x + 18 + 2) i = 0) (z22 : ∀ i, aR_ s (x + 22 + 2) i = 0) (t30 : tg_ s (x + 30) = 102) (l30 : ln_ s (x + 30) = n + 1) {v : Int32} (hv : nOf v = n) : ∀ τ, Kp False (fun z => x + 31 ≤ z) s τ → WF D τ → D < nx_ τ → CI D τ x (S0 v) := by
  intro τ kt ft hDt
  obtain ⟨_, _, Rt, ctt, htb⟩ := id hb70
  have all11 : ∀ l, tg_ s l = 11 → ¬ (x + 31 ≤ fR_ s 10 1 l) := fun l h => by
    have := f70.2.2.2.2.2.2.1 l h
    omega
  have hcr : CR D τ x (x + 10) [] := by
    have rk2 : ∀ r, x + 18 ≤ r → r ≤ x + 26 → RdS D s r (x + 10) [] 0 → RdS D τ r (x + 10) [] 0 := fun r a b h => h.kp f70 kt (by omega) (fun z a b => by omega) (all11 _ h.2.2.2.1.1) (fun i hi => absurd hi (by simp))
    refine ⟨⟨0, rk2 _ (by omega) (by omega) r18⟩, ⟨_, _, _, rk2 _ (by omega) (by omega) r22⟩, ⟨_, _, _, rk2 _ (by omega) (by omega) r26⟩, fun i j _ _ _ => ?_, fun i j _ _ _ => ?_, fun i j _ _ _ => ?_⟩
    · rw [kt.aR (by omega) (by omega)]; exact z18 i
    · rw [kt.aR (by omega) (by omega)]; exact z18 i
    · rw [kt.aR (by omega) (by omega)]; exact z22 i
  have hctt : CT D τ x (x + 6) (treeOf [rootF]) := by
    obtain ⟨rf2, c2, a1, a2⟩ := ht70
    have q1 := f70.lt a1.1
    have q2 := f70.lt a1.2.2.1.1
    have hwst : WS D s (fun z => x + 31 ≤ z ∧ z < nx_ s) := fun z y => by omega
    have kt2 : Kp False (fun z => x + 31 ≤ z ∧ z < nx_ s) s τ := kt.mono (fun z => z) (fun z hz y => ⟨y, hz⟩)
    exact ⟨rf2, c2, a1.kp f70 kt2 hwst (by omega) (by omega) (fun y => all11 _ a1.2.2.1.1 y.1) (fun i hi y => by have := f70.lt (a1.2.2.2 i hi).1; omega), a2.kp f70 a1 kt2 (by omega) (by omega)⟩
  have e7 : S0 v = ((n, fun _ => 0, fun _ => 0, fun _ => false), (false, -1, 0), treeOf [rootF], 0, []) := by unfold S0; rw [hv]
  rw [e7]
  exact ⟨x + 10, x + 14, x + 6, ft, ⟨⟨hD, by rw [kt.1]; exact hlo, hDt⟩, Or.inl ⟨rfl, rfl⟩, by rw [kt.t (by omega)]; exact t30, by rw [kt.n (by omega)]; exact l30⟩, hx70.kp f70 kt (by omega), hb70.kp f70 kt (by omega) (fun z a b => by omega) (all11 _ htb.1.1), hp70.kp f70 kt (by omega), hm70.kp f70 kt (by omega) (by omega) (by omega) (by omega), ⟨_, _, _, ho70.kp f70 kt (by omega) (by omega) (by omega) (by omega)⟩, hctt, hcr⟩
/-- readers, the row of marks -/
theorem c_initR (f24 : WF D s) (n24 : nx_ s = x + 18) (hlo : lo_ s < x) (hD : x + 30 ≤ D) (x24 : tg_ s x = 1) (h9 : fI_ s 0 9 x = 0) (hF : fR_ s 0 0 x = x + 1 ∧ fR_ s 0 1 x = x + 2 ∧ fR_ s 0 2 x = x + 10 ∧ fR_ s 0 3 x = x + 14 ∧ fR_ s 0 4 x = x + 6) (hp : PwA s (x + 1) (fun _ => 0, fun _ => 0, -1, 0, false)) (hb : CB D s x) (ht : CT D s x (x + 6) (treeOf [rootF])) (hm : MdA D s (x + 10) n (fun _ => 0) (fun _ => 0) (fun _ => false)) (ho : MdA D s (x + 14) n (fun _ => 0) (fun _ => 0) (fun _ => false)) (h200 : n ≤ 200) (h1 : 13 ≤ bc_ s) (h2 : 430 ≤ bs_ s) {v : Int32} (hv : nOf v = n) {post : Hp → Prop}
    (k : ∀ σ', WF D σ' → nx_ σ' = x + 31 → Kp False (fun z => z = x) s σ' → (∀ τ, Kp False (fun z => x + 31 ≤ z) σ' τ → WF D τ → D < nx_ τ → CI D τ x (S0 v)) → post σ') : 1 ≤ bc_ s ∧ (11 ≤ bs_ s ∧ (∀ σ27, σ27 = mO_ s 7 11 → (tg_ σ27 x = 1 ∧ (tg_ σ27 (nx_ s) = 8 ∧ (∃ mc30 ms31 : Nat, (mc30 ≤ bc_ σ27 ∧ (ms31 ≤ bs_ σ27 ∧ (wX8_init (nx_ s) (fR_ σ27 0 2 x) (bu_ σ27 mc30 ms31) (fun σ34 => (∀ σ35, σ35 = bu_ σ34 (bc_ σ27 - mc30) (bs_ σ27 - ms31) → (tg_ σ35 x = 1 ∧ (∀ σ37, σ37 = sR_ σ35 0 5 x (nx_ s) → (1 ≤ bc_ σ37 ∧ (11 ≤ bs_ σ37 ∧ (∀ σ40, σ40 = mO_ σ37 7 11 → (tg_ σ40 x = 1 ∧ (tg_ σ40 (nx_ σ37) = 8 ∧ (∃ mc43 ms44 : Nat, (mc43 ≤ bc_ σ40 ∧ (ms44 ≤ bs_ σ40 ∧ (wX8_init (nx_ σ37) (fR_ σ40 0 2 x) (bu_ σ40 mc43 ms44) (fun σ47 => (∀ σ48, σ48 = bu_ σ47 (bc_ σ40 - mc43) (bs_ σ40 - ms44) → (tg_ σ48 x = 1 ∧ (∀ σ50, σ50 = sR_ σ48 0 6 x (nx_ σ37) → (1 ≤ bc_ σ50 ∧ (11 ≤ bs_ σ50 ∧ (∀ σ53, σ53 = mO_ σ50 7 11 → (tg_ σ53 x = 1 ∧ (tg_ σ53 (nx_ σ50) = 8 ∧ (∃ mc56 ms57 : Nat, (mc56 ≤ bc_ σ53 ∧ (ms57 ≤ bs_ σ53 ∧ (wX8_init (nx_ σ50) (fR_ σ53 0 2 x) (bu_ σ53 mc56 ms57) (fun σ60 => (∀ σ61, σ61 = bu_ σ60 (bc_ σ53 - mc56) (bs_ σ53 - ms57) → (tg_ σ61 x = 1 ∧ (∀ σ63, σ63 = sR_ σ61 0 7 x (nx_ σ50) → (¬ (nI n + (1 : Int32)) < 0 ∧ (((nI n + (1 : Int32))).toNatClampNeg ≤ 1000000 ∧ (1 ≤ bc_ σ63 ∧ (((nI n + (1 : Int32))).toNatClampNeg ≤ bs_ σ63 ∧ (∀ σ68, σ68 = mA_ σ63 102 ((nI n + (1 : Int32))).toNatClampNeg → (tg_ σ68 x = 1 ∧ (∀ σ70, σ70 = sR_ σ68 0 8 x (nx_ σ63) → post σ70))))))))))))))))))))))))))))))))))))))))))))) := by
  refine c_hangR (r := x + 18) (k0 := 5) f24 n24 (by omega) (by omega) hlo x24 (by omega) (by omega) hF.2.2.1 (fun s37 f37 K37 F37 T37 I37 R37 Z37 n37 c37 b37 => ?_)
  refine c_hangR (r := x + 22) (k0 := 6) f37 n37 (by omega) (by omega) (by rw [K37.1]; exact hlo) (by rw [T37]; exact x24) (by omega) (by omega) (by rw [F37, if_neg (by decide)]; exact hF.2.2.1) (fun s50 f50 K50 F50 T50 I50 R50 Z50 n50 c50 b50 => ?_)
  refine c_hangR (r := x + 26) (k0 := 7) f50 n50 (by omega) (by omega) (by rw [K50.1, K37.1]; exact hlo) (by rw [T50, T37]; exact x24) (by omega) (by omega) (by rw [F50, if_neg (by decide), F37, if_neg (by decide)]; exact hF.2.2.1) (fun s63 f63 K63 F63 T63 I63 R63 Z63 n63 c63 b63 => ?_)
  rw [li_1, nI_add, nI_clamp (by omega)]
  refine ⟨nI_pos (by omega), by omega, by omega, by omega, fun s68 e68 => ?_⟩
  have k68 : Kp False (fun _ => False) s63 s68 := by rw [e68]; exact Kp.mA' Kp.refl
  have x63 : tg_ s63 x = 1 := by rw [T63, T50, T37]; exact x24
  refine ⟨by rw [k68.t (by omega)]; exact x63, fun s70 e70 => ?_⟩
  obtain ⟨K70, F70, T70, I70⟩ := hang (by omega) k68 e70
  have f70 : WF D s70 := by rw [e70, e68]; exact (f63.mA (by decide)).sR (by decide)
  have n70 : nx_ s70 = x + 31 := by rw [e70, e68]; show nx_ s63 + 1 = _; omega
  have C63 : Kp False (fun z => z = x) s50 s70 := K63.trans K70 (fun _ _ z => z)
  have C50 : Kp False (fun z => z = x) s37 s70 := K50.trans C63 (fun _ _ z => z)
  have A0 : Kp False (fun z => z = x) s s70 := K37.trans C50 (fun _ _ z => z)
  have hs : Sx D s (fun z => z = x) := fun z hz' => by
    subst hz'
    rw [x24]
    exact ⟨by omega, by decide, by decide, by decide, by decide, by decide, by decide, fun w => absurd w (by decide)⟩
  have hx70 : CX s70 x (x + 10) (x + 14) (x + 6) 0 := by
    refine ⟨by rw [T70]; exact x63, ?_, ?_, ?_, ?_, ?_, ?_, ?_, ?_, ?_, ?_⟩
    · rw [F70, if_neg (by decide), F63, if_neg (by decide), F50, if_neg (by decide), F37, if_neg (by decide)]; exact hF.1
    · rw [F70, if_neg (by decide), F63, if_neg (by decide), F50, if_neg (by decide), F37, if_neg (by decide)]; exact hF.2.1
    · rw [F70, if_neg (by decide), F63, if_neg (by decide), F50, if_neg (by decide), F37, if_neg (by decide)]; exact hF.2.2.1
    · rw [F70, if_neg (by decide), F63, if_neg (by decide), F50, if_neg (by decide), F37, if_neg (by decide)]; exact hF.2.2.2.1
    · rw [F70, if_neg (by decide), F63, if_neg (by decide), F50, if_neg (by decide), F37, if_neg (by decide)]; exact hF.2.2.2.2
    · rw [F70, if_neg (by decide), F63, if_neg (by decide), F50, if_neg (by decide), F37, if_pos rfl]
    · rw [F70, if_neg (by decide), F63, if_neg (by decide), F50, if_pos rfl]
    · rw [F70, if_neg (by decide), F63, if_pos rfl]
    · rw [F70, if_pos rfl]; exact n63
    · rw [I70, I63, I50, I37]; exact h9
  have t30 : tg_ s70 (x + 30) = 102 := by rw [e70, e68, atg_sR, atg_mA, n63, u1_e]
  have l30 : ln_ s70 (x + 30) = n + 1 := by rw [e70, e68, aln_sR, aln_mA, n63, u1_e]
  refine k s70 f70 n70 A0 (c_initEnd f70 n70 (by rw [A0.1]; exact hlo) hD hx70 (hb.sx f24 A0 hs (fun z a b y => by omega)) (hp.kp f24 A0 (by omega)) (hm.kp f24 A0 (by omega) (by omega) (by omega) (by omega)) (ho.kp f24 A0 (by omega) (by omega) (by omega) (by omega)) (ht.sx f24 A0 hs) ?_ ?_ ?_ (fun i => ?_) (fun i => ?_) t30 l30 hv)
  · exact rk_x f37 (by rw [T37]; exact x24) (by omega) (by omega) R37 C50
  · exact rk_x f50 (by rw [T50, T37]; exact x24) (by omega) (by omega) R50 C63
  · exact rk_x f63 x63 (by omega) (by omega) R63 K70
  · rw [C50.aR (by omega) (by omega)]; exact Z37 i
  · rw [C63.aR (by omega) (by omega)]; exact Z50 i
/-- a medium is made and hung on x -/
theorem c_hangM {k0 : Nat} {P : Hp → Prop} (fs : WF D s) (ns : nx_ s = r) (xr : x < r) (hrD : r + 3 ≤ D) (los : lo_ s < x) (tx : tg_ s x = 1) (h40 : 40 ≤ n) (h200 : n ≤ 200) (bcs : 4 ≤ bc_ s) (bss : 410004 ≤ bs_ s)
    (hP : ∀ s37, WF D s37 → Kp False (fun z => z = x) s s37 → (∀ k', fR_ s37 0 k' x = if k' = k0 then r else fR_ s 0 k' x) → tg_ s37 x = tg_ s x → fI_ s37 0 9 x = fI_ s 0 9 x → MdA D s37 r n (fun _ => 0) (fun _ => 0) (fun _ => false) → nx_ s37 = r + 4 → bc_ s37 = bc_ s - 4 → bs_ s ≤ bs_ s37 + 410004 → P s37) :
    1 ≤ bc_ s ∧ (4 ≤ bs_ s ∧ (∀ σ3, σ3 = mO_ s 6 4 → (tg_ σ3 (nx_ s) = 7 ∧ (∃ mc5 ms6 : Nat, (mc5 ≤ bc_ σ3 ∧ (ms6 ≤ bs_ σ3 ∧ (wX7_init (nx_ s) (nI n) (bu_ σ3 mc5 ms6) (fun σ9 => (∀ σ10, σ10 = bu_ σ9 (bc_ σ3 - mc5) (bs_ σ3 - ms6) → (tg_ σ10 x = 1 ∧ (∀ σ12, σ12 = sR_ σ10 0 k0 x (nx_ s) → P σ12))))))))))) := by
  refine ⟨by omega, by omega, fun s3 e3 => ?_⟩
  have k3 : Kp False (fun _ => False) s s3 := by rw [e3]; exact Kp.mO' Kp.refl
  have F3 : WF D s3 := by rw [e3]; exact fs.mO
  have n3 : nx_ s3 = r + 1 := by rw [e3]; show nx_ s + 1 = _; omega
  have t3 : tg_ s3 r = 7 := by rw [e3, ← ns, atg_mO, u1_e]
  have b3 : bc_ s3 = bc_ s - 1 ∧ bs_ s3 = bs_ s - 4 := by rw [e3]; exact ⟨rfl, rfl⟩
  obtain ⟨ms, hms⟩ : ∃ m, m = 2050 * n := ⟨_, rfl⟩
  have lo3 : lo_ s3 < r := by rw [k3.1]; omega
  rw [ns]
  refine ⟨t3, 3, ms, by omega, by omega, c_minit (σ := bu_ s3 3 ms) F3 t3 n3 lo3 hrD h40 h200 (Nat.le_refl _) (show 2050 * n ≤ ms by omega) (fun s9 f9 k9 m9 n9 s10 e10 => ?_)⟩
  have k9' : Kp False (fun z => z = r) s3 s9 := k9
  have k10 : Kp False (fun _ => False) s s10 := by rw [e10]; exact new0 k3 k9' (by omega)
  have f10 : WF D s10 := by rw [e10]; exact f9
  have m10 : MdA D s10 r n (fun _ => 0) (fun _ => 0) (fun _ => false) := by rw [e10]; exact m9
  refine ⟨by rw [k10.t (by omega)]; exact tx, fun s12 e12 => ?_⟩
  obtain ⟨K12, F12, T12, I12⟩ := hang (by omega) k10 e12
  have kx : Kp False (fun z => z = x) s10 s12 := by rw [e12]; exact Kp.sR' Kp.refl (Or.inl rfl)
  exact hP s12 (by rw [e12]; exact f10.sR (by decide)) K12 F12 T12 I12 (m10.kp f10 kx (by omega) (by omega) (by omega) (by omega)) (by rw [e12, e10]; exact n9) (by rw [e12, e10]; show bc_ s3 - 3 = _; omega) (by rw [e12, e10]; show _ ≤ bs_ s3 - ms + _; omega)
/-- the second half: media, readers, the row of marks -/
theorem c_init60 (hf : WF D s) (hn : nx_ s = x + 10) (hlo : lo_ s < x) (hD : x + 30 ≤ D) (hx : tg_ s x = 1) (h9 : fI_ s 0 9 x = 0) (hF : fR_ s 0 0 x = x + 1 ∧ fR_ s 0 1 x = x + 2 ∧ fR_ s 0 4 x = x + 6) (hp : PwA s (x + 1) (fun _ => 0, fun _ => 0, -1, 0, false)) (hb : CB D s x) (ht : CT D s x (x + 6) (treeOf [rootF]))
    (h40 : 40 ≤ n) (h200 : n ≤ 200) (h1 : 21 ≤ bc_ s) (h2 : 820750 ≤ bs_ s) {v : Int32} (hv : nOf v = n) {post : Hp → Prop}
    (k : ∀ σ', WF D σ' → nx_ σ' = x + 31 → Kp False (fun z => z = x) s σ' → (∀ τ, Kp False (fun z => x + 31 ≤ z) σ' τ → WF D τ → D < nx_ τ → CI D τ x (S0 v)) → post σ') : wX1_init_L60 post x (nI n) s := by
  unfold wX1_init_L60
  refine c_hangM (r := x + 10) (k0 := 2) hf hn (by omega) (by omega) hlo hx h40 h200 (by omega) (by omega) (fun s12 f12 K12 F12 T12 I12 m12 n12 c12 b12 => ?_)
  refine c_hangM (r := x + 14) (k0 := 3) f12 n12 (by omega) (by omega) (by rw [K12.1]; exact hlo) (by rw [T12]; exact hx) h40 h200 (by omega) (by omega) (fun s24 f24 K24 F24 T24 I24 o24 n24 c24 b24 => ?_)
  have A : Kp False (fun z => z = x) s s24 := K12.trans K24 (fun _ _ z => z)
  have hs : Sx D s (fun z => z = x) := fun z hz' => by
    subst hz'
    rw [hx]
    exact ⟨by omega, by decide, by decide, by decide, by decide, by decide, by decide, fun w => absurd w (by decide)⟩
  refine c_initR f24 n24 (by rw [A.1]; exact hlo) hD (by rw [T24, T12]; exact hx) (by rw [I24, I12]; exact h9) ⟨?_, ?_, ?_, ?_, ?_⟩ (hp.kp hf A (by omega)) (hb.sx hf A hs (fun z a b y => by omega)) (ht.sx hf A hs) (m12.kp f12 K24 (by omega) (by omega) (by omega) (by omega)) o24 h200 (by omega) (by omega) hv (fun s' g1 g2 g3 g4 => k s' g1 g2 (A.trans g3 (fun _ _ z => z)) g4)
  · rw [F24, if_neg (by decide), F12, if_neg (by decide)]; exact hF.1
  · rw [F24, if_neg (by decide), F12, if_neg (by decide)]; exact hF.2.1
  · rw [F24, if_neg (by decide), F12, if_pos rfl]
  · rw [F24, if_pos rfl]
  · rw [F24, if_neg (by decide), F12, if_neg (by decide)]; exact hF.2.2
theorem C_init (hf : WF D σ) (hx : tg_ σ x = 1) (hn : nx_ σ = x + 1) (hlo : lo_ σ < x) (hD : x + 30 ≤ D) (h0 : fI_ σ 0 9 x = 0) (h1 : 30 ≤ bc_ σ) (h2 : 822838 ≤ bs_ σ) {v : Int32} {post : Hp → Prop}
    (k : ∀ σ', WF D σ' → nx_ σ' = x + 31 → Kp False (fun z => z = x) σ σ' → (∀ τ, Kp False (fun z => x + 31 ≤ z) σ' τ → WF D τ → D < nx_ τ → CI D τ x (S0 v)) → post σ') : wX1_init x v σ post := by
  unfold wX1_init
  refine ⟨hx, by omega, by omega, fun s74 e74 => ?_⟩
  have k74 : Kp False (fun _ => False) σ s74 := by rw [e74]; exact Kp.mO' Kp.refl
  have t74 : tg_ s74 (x + 1) = 2 := by rw [e74, ← hn, atg_mO, u1_e]
  have n74 : nx_ s74 = x + 2 := by rw [e74]; show nx_ σ + 1 = _; omega
  rw [hn]
  unfold wX2_init
  refine ⟨t74, t74, fun s76 e76 s77 e77 => ?_⟩
  have k77 : Kp False (fun _ => False) σ s77 := by
    rw [e77, e76]
    exact Kp.bu' (Kp.sI' k74 (Or.inr (Or.inl (by omega))))
  have f77 : WF D s77 := by rw [e77, e76, e74]; exact WF.bu (WF.sI hf.mO (by decide))
  have n77 : nx_ s77 = x + 2 := by rw [e77, e76]; exact n74
  have b77 : bc_ s77 = bc_ σ - 1 ∧ bs_ s77 = bs_ σ - 3 := by rw [e77, e76, e74]; exact ⟨rfl, rfl⟩
  have p77 : PwA s77 (x + 1) (fun _ => 0, fun _ => 0, -1, 0, false) := by
    rw [e77, e76]
    refine ⟨t74, by rw [afI_bu, afI_sI, u3_e]; rfl, ?_, ?_⟩
    · rw [afI_bu, afI_sI, u3_k (by decide), e74, afI_mO, hn, z3_e]; rfl
    · rw [afI_bu, afI_sI, u3_k (by decide), e74, afI_mO, hn, z3_e]; rfl
  refine ⟨by rw [k77.t (by omega)]; exact hx, fun s79 e79 => ?_⟩
  obtain ⟨K79, F79, T79, I79⟩ := hang (by omega) k77 e79
  have kx79 : Kp False (fun z => z = x) s77 s79 := by rw [e79]; exact Kp.sR' Kp.refl (Or.inl rfl)
  have f79 : WF D s79 := by rw [e79]; exact f77.sR (by decide)
  have n79 : nx_ s79 = x + 2 := by rw [e79]; exact n77
  have b79 : bc_ s79 = bc_ σ - 1 ∧ bs_ s79 = bs_ σ - 3 := by rw [e79]; exact b77
  have p79 := p77.kp f77 kx79 (by omega)
  have x79 : tg_ s79 x = 1 := by rw [T79]; exact hx
  -- the burner
  refine ⟨by omega, by omega, fun s82 e82 => ?_⟩
  have k82 : Kp False (fun _ => False) s79 s82 := by rw [e82]; exact Kp.mO' Kp.refl
  have F_s82 : WF D s82 := by rw [e82]; exact f79.mO
  have n82 : nx_ s82 = x + 3 := by rw [e82]; show nx_ s79 + 1 = _; omega
  have t82 : tg_ s82 (x + 2) = 3 := by rw [e82, ← n79, atg_mO, u1_e]
  have b82 : bc_ s82 = bc_ σ - 2 ∧ bs_ s82 = bs_ σ - 9 := by rw [e82]; exact ⟨by show bc_ s79 - 1 = _; omega, by show bs_ s79 - 6 = _; omega⟩
  have r82 : fR_ s82 0 0 x = x + 1 := by rw [k82.r (by omega) (fun z => z), F79, if_pos rfl]
  obtain ⟨ms, hms⟩ : ∃ m, m = 2052 := ⟨_, rfl⟩
  rw [n79, r82]
  refine ⟨by rw [k82.t (by omega)]; exact x79, t82, 3, ms, by omega, by omega, c_binit (σ := bu_ s82 3 ms) F_s82 t82 n82 (by show lo_ s82 < _; rw [k82.1, K79.1]; exact hlo) hD (Nat.le_refl _) (show 2052 ≤ ms by omega) (fun s89 f89 k89 cb89 n89 s90 e90 => ?_)⟩
  have k89' : Kp False (fun z => z = x + 2) s82 s89 := k89
  have k90 : Kp False (fun _ => False) s79 s90 := by rw [e90]; exact new0 k82 k89' (by omega)
  have f90 : WF D s90 := by rw [e90]; exact f89
  have cb90 : CB D s90 x := by rw [e90]; exact cb89
  have n90 : nx_ s90 = x + 6 := by rw [e90]; exact n89
  have b90 : bc_ s90 = bc_ σ - 5 ∧ bs_ s90 = bs_ σ - 9 - ms := by rw [e90]; exact ⟨by show bc_ s82 - 3 = _; omega, by show bs_ s82 - ms = _; omega⟩
  refine ⟨by rw [k90.t (by omega)]; exact x79, fun s92 e92 => ?_⟩
  obtain ⟨K92, F92, T92, I92⟩ := hang (by omega) k90 e92
  have kx92 : Kp False (fun z => z = x) s90 s92 := by rw [e92]; exact Kp.sR' Kp.refl (Or.inl rfl)
  have f92 : WF D s92 := by rw [e92]; exact f90.sR (by decide)
  have n92 : nx_ s92 = x + 6 := by rw [e92]; exact n90
  have x90 : tg_ s90 x = 1 := by rw [k90.t (by omega)]; exact x79
  have hs90 : Sx D s90 (fun z => z = x) := fun z hz' => by
    subst hz'
    rw [x90]
    exact ⟨by omega, by decide, by decide, by decide, by decide, by decide, by decide, fun w => absurd w (by decide)⟩
  have cb92 : CB D s92 x := cb90.sx f90 kx92 hs90 (fun z a b y => by omega)
  have p92 := p79.kp f79 K92 (by omega)
  have x92 : tg_ s92 x = 1 := by rw [T92]; exact x79
  have b92 : bc_ s92 = bc_ σ - 5 ∧ bs_ s92 = bs_ σ - 9 - ms := by rw [e92]; exact b90
  -- the tree
  refine ⟨by omega, by omega, fun s95 e95 => ?_⟩
  have k95 : Kp False (fun _ => False) s92 s95 := by rw [e95]; exact Kp.mO' Kp.refl
  have F_s95 : WF D s95 := by rw [e95]; exact f92.mO
  have n95 : nx_ s95 = x + 7 := by rw [e95]; show nx_ s92 + 1 = _; omega
  have t95 : tg_ s95 (x + 6) = 5 := by rw [e95, ← n92, atg_mO, u1_e]
  have b95 : bc_ s95 = bc_ σ - 6 ∧ bs_ s95 = bs_ σ - 11 - ms := by rw [e95]; exact ⟨by show bc_ s92 - 1 = _; omega, by show bs_ s92 - 2 = _; omega⟩
  rw [n92]
  refine ⟨t95, 3, 25, by omega, by omega, c_tinitX (σ := bu_ s95 3 25) F_s95 t95 (by show fI_ s95 4 1 _ = 0; rw [e95, afI_mO, n92, z3_e]) root_0 (Nat.le_refl _) (Nat.le_refl _) (fun s101 f101 k101 tr101 w1 w2 w3 s102 e102 => ?_)⟩
  have k101' : Kp False (fun z => z = x + 6) s95 s101 := k101
  have w1' : fR_ s101 4 0 (x + 6) = nx_ s95 := w1
  have w2' : fR_ s101 10 1 (nx_ s95) = nx_ s95 + 2 := w2
  have w3' : nx_ s101 = nx_ s95 + 3 := w3
  rw [n95] at w1' w2' w3'
  have k102 : Kp False (fun _ => False) s92 s102 := by rw [e102]; exact new0 k95 k101' (by omega)
  have f102 : WF D s102 := by rw [e102]; exact f101
  have tr102 : TrA D s102 (x + 6) (treeOf [rootF]) (upA (fun _ => 0) 0 (x + 8)) 10 := by
    have : TrA D s101 (x + 6) (treeOf [rootF]) (upA (fun _ => 0) 0 (nx_ s95 + 1)) 10 := tr101
    rw [n95] at this
    rw [e102]; exact this
  refine ⟨by rw [k102.t (by omega)]; exact x92, fun s104 e104 => ?_⟩
  obtain ⟨K104, F104, T104, I104⟩ := hang (by omega) k102 e104
  have kx104 : Kp False (fun z => z = x) s102 s104 := by rw [e104]; exact Kp.sR' Kp.refl (Or.inl rfl)
  have f104 : WF D s104 := by rw [e104]; exact f102.sR (by decide)
  have n104 : nx_ s104 = x + 10 := by rw [e104, e102]; exact w3'
  have x102 : tg_ s102 x = 1 := by rw [k102.t (by omega)]; exact x92
  have hs92 : Sx D s92 (fun z => z = x) := fun z hz' => by
    subst hz'
    rw [x92]
    exact ⟨by omega, by decide, by decide, by decide, by decide, by decide, by decide, fun w => absurd w (by decide)⟩
  have hs102 : Sx D s102 (fun z => z = x) := fun z hz' => by
    subst hz'
    rw [x102]
    exact ⟨by omega, by decide, by decide, by decide, by decide, by decide, by decide, fun w => absurd w (by decide)⟩
  have cb104 : CB D s104 x := cb92.sx f92 K104 hs92 (fun z a b y => by omega)
  have p104 := p92.kp f92 K104 (by omega)
  have av : ∀ z, tg_ s102 z ≠ 1 → ¬ z = x := fun z h e => h (by rw [e]; exact x102)
  have tr104 : TrA D s104 (x + 6) (treeOf [rootF]) (upA (fun _ => 0) 0 (x + 8)) 10 := tr102.kp f102 kx104 hs102.ws (by omega) (av _ (by rw [tr102.2.2.1.1]; decide)) (av _ (by rw [tr102.2.2.1.2.2.1]; decide)) (fun i hi => av _ (by rw [(tr102.2.2.2 i hi).1]; decide))
  have lo104 : lo_ s104 = lo_ σ := by rw [K104.1, K92.1, K79.1]
  have A : Kp False (fun z => z = x) σ s104 := (K79.trans K92 (fun _ _ z => z)).trans K104 (fun _ _ z => z)
  have b104 : bc_ s104 = bc_ σ - 9 ∧ bs_ s104 = bs_ σ - 36 - ms := by rw [e104, e102]; exact ⟨by show bc_ s95 - 3 = _; omega, by show bs_ s95 - 25 = _; omega⟩
  have q1 : fR_ s104 4 0 (x + 6) = x + 7 := by rw [e104, afR_sR, u3_c (by decide), e102]; exact w1'
  have q2 : fR_ s104 10 1 (x + 7) = x + 9 := by rw [e104, afR_sR, u3_c (by decide), e102]; exact w2'
  have tz : TZ D x s104 (x + 6) (treeOf [rootF]) (upA (fun _ => 0) 0 (x + 8)) := by
    refine ⟨Or.inl (by omega), by rw [q1]; exact Or.inl (by omega), by rw [q1, q2]; exact Or.inl (by omega), fun i hi => ?_⟩
    have : i = 0 := by rw [tL_of] at hi; simpa using hi
    rw [this, upA_e]; exact Or.inl (by omega)
  have hct : CT D s104 x (x + 6) (treeOf [rootF]) := ⟨_, _, tr104, tz⟩
  have go : ∀ n, 40 ≤ n → n ≤ 200 → nOf v = n → wX1_init_L60 post x (nI n) s104 := by
    intro n h40 h200 hv
    refine c_init60 f104 n104 (by rw [lo104]; exact hlo) hD (by rw [T104]; exact x92) (by rw [I104, I92, I79]; exact h0) ⟨?_, ?_, ?_⟩ p104 cb104 hct h40 h200 (by omega) (by omega) hv (fun s' g1 g2 g3 g4 => k s' g1 g2 (A.trans g3 (fun _ _ z => z)) g4)
    · rw [F104, if_neg (by decide), F92, if_neg (by decide), F79, if_pos rfl]
    · rw [F104, if_neg (by decide), F92, if_pos rfl]
    · rw [F104, if_pos rfl]
  have hb := nOf_b v
  unfold wX1_init_L58
  refine ⟨fun z => go 100 (by decide) (by decide) (nOf_o (Or.inl z)), fun z => ⟨fun z2 => go 100 (by decide) (by decide) (nOf_o (Or.inr z2)), fun z2 => ?_⟩⟩
  have := go (nOf v) hb.1 hb.2 rfl
  rw [← nOf_s z z2] at this
  exact this
end
