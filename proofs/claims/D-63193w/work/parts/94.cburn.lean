/-! the burner of the class: what it works on, and what each kind of step leaves -/
def dz (D x r : Nat) : Prop := (x + 6 ≤ r ∧ r ≤ x + 9) ∨ D < r
/-- a tree's places -/
def TZ (D x : Nat) (σ : Hp) (q : Nat) (t : TT) (rf : Nat → Nat) : Prop := dz D x q ∧ dz D x (fR_ σ 4 0 q) ∧ dz D x (fR_ σ 10 1 (fR_ σ 4 0 q)) ∧ ∀ k ∈ tL t, dz D x (rf k)
def BuA (σ : Hp) (x md od q : Nat) : Prop := tg_ σ (x + 2) = 3 ∧ fR_ σ 2 0 (x + 2) = md ∧ fR_ σ 2 1 (x + 2) = od ∧ fR_ σ 2 2 (x + 2) = x + 1 ∧ fR_ σ 2 3 (x + 2) = q ∧ fR_ σ 2 4 (x + 2) = x + 3 ∧ fR_ σ 2 5 (x + 2) = x + 4
def PwA (σ : Hp) (w : Nat) (b : BS) : Prop := tg_ σ w = 2 ∧ fI_ σ 1 0 w = bL b ∧ fI_ σ 1 1 w = bWr b ∧ fI_ σ 1 2 w = b2 (bLo b)
/-- the table: a list whose array is its own -/
def TbA (D : Nat) (σ : Hp) (x : Nat) (R : List Nat) (c : Nat) : Prop := Lst σ 6 (x + 3) R c ∧ (fR_ σ 10 1 (x + 3) ≤ lo_ σ ∨ D < fR_ σ 10 1 (x + 3))
def BuE (D : Nat) (σ : Hp) (x n md od q : Nat) (t : TT) (rf : Nat → Nat) (c : Nat) (R : List Nat) (ct : Nat) (f : Nat → Nat) (b : BS) (Df : Nat → Bool) (Bo : Nat → Nat) : Prop :=
  WF D σ ∧ (x + 30 ≤ D ∧ lo_ σ < x ∧ (md = x + 10 ∨ md = x + 14) ∧ (od = x + 10 ∨ od = x + 14)) ∧ BuA σ x md od q ∧ PwA σ (x + 1) b ∧ PgA D σ (x + 4) (x + 5) f ∧ MdA D σ md n (bB b) (bSt b) Df ∧ (md ≠ od → ∃ Sto Dfo, MdA D σ od n Bo Sto Dfo) ∧ TrA D σ q t rf c ∧ TZ D x σ q t rf ∧ TbA D σ x R ct ∧ TOK n t ∧ D < nx_ σ
section
variable {S : Prop} {W : Nat → Prop} {D n : Nat} {σ σ' τ : Hp} {x md od q : Nat} {t : TT} {rf : Nat → Nat} {c : Nat} {R : List Nat} {ct : Nat} {f : Nat → Nat} {b : BS} {Df : Nat → Bool} {Bo : Nat → Nat}
theorem BuA.kp (h : BuA σ x md od q) (hf : WF D σ) (k : Kp S W σ τ) (h0 : ¬ W (x + 2)) : BuA τ x md od q := by
  obtain ⟨a1, a2, a3, a4, a5, a6, a7⟩ := h
  have l := hf.lt a1
  exact ⟨by rw [k.t l]; exact a1, by rw [k.r l h0]; exact a2, by rw [k.r l h0]; exact a3, by rw [k.r l h0]; exact a4, by rw [k.r l h0]; exact a5, by rw [k.r l h0]; exact a6, by rw [k.r l h0]; exact a7⟩
theorem PwA.kp {w : Nat} (h : PwA σ w b) (hf : WF D σ) (k : Kp S W σ τ) (h0 : ¬ W w) : PwA τ w b := by
  obtain ⟨a1, a2, a3, a4⟩ := h
  have l := hf.lt a1
  exact ⟨by rw [k.t l]; exact a1, by rw [k.i l h0 (by omega)]; exact a2, by rw [k.i l h0 (by omega)]; exact a3, by rw [k.i l h0 (by omega)]; exact a4⟩
theorem TZ.kp (h : TZ D x σ q t rf) (hf : WF D σ) (ht : TrA D σ q t rf c) (k : Kp S W σ τ) (h1 : ¬ W q) (h2 : ¬ W (fR_ σ 4 0 q)) : TZ D x τ q t rf := by
  obtain ⟨a1, a2, a3, a4⟩ := h
  have l := hf.lt ht.1
  have l2 := hf.lt ht.2.2.1.1
  have e1 : fR_ τ 4 0 q = fR_ σ 4 0 q := k.r l h1
  have e2 : fR_ τ 10 1 (fR_ σ 4 0 q) = fR_ σ 10 1 (fR_ σ 4 0 q) := k.r l2 h2
  exact ⟨a1, by rw [e1]; exact a2, by rw [e1, e2]; exact a3, a4⟩
theorem TbA.kp (h : TbA D σ x R ct) (hf : WF D σ) (k : Kp S W σ τ) (h1 : ¬ W (x + 3)) (h2 : ¬ W (fR_ σ 10 1 (x + 3))) (h0 : ¬ W 0) : TbA D τ x R ct := by
  have l := hf.lt h.1.1
  have e : fR_ τ 10 1 (x + 3) = fR_ σ 10 1 (x + 3) := k.r l h1
  exact ⟨h.1.kp hf k h1 h2 h0 (h.1.lt hf (by decide)), by rw [e, k.1]; exact h.2⟩
/-- a step that leaves all of it alone -/
theorem BuE.keep (E : BuE D σ x n md od q t rf c R ct f b Df Bo) (hf' : WF D τ) (k : Kp S W σ τ) (hw : WS D σ W) (hW : ∀ r, W r → ¬ (x ≤ r ∧ r ≤ D) ∧ r ≠ fR_ σ 10 1 (x + 3) ∧ r ≠ q ∧ r ≠ fR_ σ 4 0 q ∧ r ≠ fR_ σ 10 1 (fR_ σ 4 0 q) ∧ ∀ k ∈ tL t, r ≠ rf k) : BuE D τ x n md od q t rf c R ct f b Df Bo := by
  obtain ⟨hf, ⟨x1, x2, x3, x4⟩, hb, hp, hpg, hmd, hod, htr, htz, htb, ok, hD⟩ := E
  have w0 : ¬ W 0 := fun z => (hw 0 z).2.2 rfl
  have wx : ∀ r, x ≤ r → r ≤ D → ¬ W r := fun r h1 h2 z => (hW r z).1 ⟨h1, h2⟩
  have wq : ¬ W q := fun z => (hW q z).2.2.1 rfl
  have wl : ¬ W (fR_ σ 4 0 q) := fun z => (hW _ z).2.2.2.1 rfl
  have wa : ¬ W (fR_ σ 10 1 (fR_ σ 4 0 q)) := fun z => (hW _ z).2.2.2.2.1 rfl
  have wn : ∀ k ∈ tL t, ¬ W (rf k) := fun k hk z => (hW _ z).2.2.2.2.2 k hk rfl
  have wt : ¬ W (fR_ σ 10 1 (x + 3)) := fun z => (hW _ z).2.1 rfl
  refine ⟨hf', ⟨x1, by rw [k.1]; exact x2, x3, x4⟩, hb.kp hf k (wx _ (by omega) (by omega)), hp.kp hf k (wx _ (by omega) (by omega)), hpg.kp hf k (wx _ (by omega) (by omega)) (wx _ (by omega) (by omega)), hmd.kp hf k (wx _ (by omega) (by omega)) (wx _ (by omega) (by omega)) (wx _ (by omega) (by omega)) (wx _ (by omega) (by omega)), fun z => ?_, htr.kp hf k hw wq wl wa wn, htz.kp hf htr k wq wl, htb.kp hf k (wx _ (by omega) (by omega)) wt w0, ok, by have := k.2.1; omega⟩
  obtain ⟨s, d, h⟩ := hod z
  exact ⟨s, d, h.kp hf k (wx _ (by omega) (by omega)) (wx _ (by omega) (by omega)) (wx _ (by omega) (by omega)) (wx _ (by omega) (by omega))⟩
/-- things are made -/
theorem BuE.made (E : BuE D σ x n md od q t rf c R ct f b Df Bo) (hf' : WF D τ) (k : Kp S (fun _ => False) σ τ) : BuE D τ x n md od q t rf c R ct f b Df Bo :=
  E.keep hf' k WS0 (fun _ z => z.elim)
theorem BuE.bu (E : BuE D σ x n md od q t rf c R ct f b Df Bo) {i j : Nat} : BuE D (bu_ σ i j) x n md od q t rf c R ct f b Df Bo := E
/-- the page is written -/
theorem BuE.pg {g : Nat → Nat} (E : BuE D σ x n md od q t rf c R ct f b Df Bo) (k : AF (x + 5) σ τ) (h : PgA D τ (x + 4) (x + 5) g) : BuE D τ x n md od q t rf c R ct g b Df Bo := by
  obtain ⟨hf, ⟨x1, x2, x3, x4⟩, hb, hp, hpg, hmd, hod, htr, htz, htb, ok, hD⟩ := E
  have hf' := hpg.wf hf k
  have hw := hpg.ws hf
  have kk : Kp False (fun q => q = x + 5) σ τ := k.kp
  obtain ⟨z1, z2, z3, z4⟩ := id htz
  unfold dz at z1 z2 z3 z4
  have tA : fR_ σ 10 1 (x + 3) ≠ x + 5 := fun z => by
    have := htb.1.2.2.1
    rw [z, hpg.2.2.1] at this; cases this
  refine ⟨hf', ⟨x1, by rw [kk.1]; exact x2, x3, x4⟩, hb.kp hf kk (by omega), hp.kp hf kk (by omega), h, hmd.kp hf kk (by omega) (by omega) (by omega) (by omega), fun z => ?_, htr.kp hf kk hw (by omega) (by omega) (by omega) (fun k hk => by have := z4 k hk; omega), htz.kp hf htr kk (by omega) (by omega), htb.kp hf kk (by omega) tA (by omega), ok, by have := k.2.2.2.2.2.2.2.1; omega⟩
  obtain ⟨s, d, h⟩ := hod z
  exact ⟨s, d, h.kp hf kk (by omega) (by omega) (by omega) (by omega)⟩
/-- the table is written -/
theorem BuE.tb {R' : List Nat} {ct' : Nat} (E : BuE D σ x n md od q t rf c R ct f b Df Bo) (hf' : WF D τ) (k : Kp False (WL σ (x + 3)) σ τ) (h : Lst τ 6 (x + 3) R' ct') (ha : fR_ τ 10 1 (x + 3) = fR_ σ 10 1 (x + 3) ∨ nx_ σ ≤ fR_ τ 10 1 (x + 3)) : BuE D τ x n md od q t rf c R' ct' f b Df Bo := by
  obtain ⟨hf, ⟨x1, x2, x3, x4⟩, hb, hp, hpg, hmd, hod, htr, htz, htb, ok, hD⟩ := E
  have hw := WL_WS htb.1 hf
  obtain ⟨z1, z2, z3, z4⟩ := id htz
  unfold dz at z1 z2 z3 z4
  have tA := htb.1.2.2.1
  have hta := htb.2
  have av : ∀ r, tg_ σ r ≠ 104 → r ≠ x + 3 → ¬ WL σ (x + 3) r := by
    rintro r h1 h2 (e | ⟨e, _⟩)
    · exact h2 e
    · rw [← e] at tA; exact h1 tA
  have aT : ¬ WL σ (x + 3) (fR_ σ 10 1 (fR_ σ 4 0 q)) := by
    rintro (e | ⟨e, e2⟩)
    · omega
    · have := hf.2.2.2.2.2.2.2 (fR_ σ 4 0 q) (x + 3) htr.2.2.1.1 htb.1.1 (by omega) e
      omega
  have g2 : tg_ σ (x + 2) = 3 := hb.1
  have g1 : tg_ σ (x + 1) = 2 := hp.1
  have g4 : tg_ σ (x + 4) = 4 := hpg.1
  have g5 : tg_ σ (x + 5) = 100 := hpg.2.2.1
  obtain ⟨⟨m1, _⟩, ⟨m2, m3, m4⟩, _⟩ := id hmd
  refine ⟨hf', ⟨x1, by rw [k.1]; exact x2, x3, x4⟩, hb.kp hf k (av _ (by omega) (by omega)), hp.kp hf k (av _ (by omega) (by omega)), hpg.kp hf k (av _ (by omega) (by omega)) (av _ (by omega) (by omega)), hmd.kp hf k (av _ (by omega) (by omega)) (av _ (by omega) (by omega)) (av _ (by omega) (by omega)) (av _ (by omega) (by omega)), fun z => ?_, htr.kp hf k hw (av _ (by rw [htr.1]; decide) (by omega)) (av _ (by rw [htr.2.2.1.1]; decide) (by omega)) aT (fun k hk => av _ (by rw [(htr.2.2.2 k hk).1]; decide) (by have := z4 k hk; omega)), htz.kp hf htr k (av _ (by rw [htr.1]; decide) (by omega)) (av _ (by rw [htr.2.2.1.1]; decide) (by omega)), ⟨h, ?_⟩, ok, by have := k.2.1; omega⟩
  · obtain ⟨s, d, h⟩ := hod z
    obtain ⟨⟨m1', _⟩, ⟨m2', m3', m4'⟩, _⟩ := id h
    exact ⟨s, d, h.kp hf k (av _ (by omega) (by omega)) (av _ (by omega) (by omega)) (av _ (by omega) (by omega)) (av _ (by omega) (by omega))⟩
  · rw [k.1]
    rcases ha with e | e
    · rw [e]; exact hta
    · omega
/-- a node's place in the session is written -/
theorem BuE.sc (E : BuE D σ x n md od q t rf c R ct f b Df Bo) {k' r : Nat} {v : Int32} (hk : 9 ≤ k') : BuE D (sI_ σ 5 k' r v) x n md od q t rf c R ct f b Df Bo :=
  E.keep (S := True) (W := fun _ => False) (E.1.sI (by decide)) (Kp.sI' Kp.refl (Or.inr (Or.inr ⟨trivial, rfl, hk⟩))) WS0 (fun _ z => z.elim)
end
