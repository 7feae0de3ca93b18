/-! the reference: its object at m, its arrays at m + 1 .. m + 28 (printed by gen/g3.py) -/
def mwF : List Nat := [3, 4, 5, 9, 11, 12, 13, 14, 15, 16, 17, 18, 19, 21, 24, 25, 26, 29, 30, 31, 32, 33, 34, 36, 37, 38, 39, 40]
def mwT : List Nat := [100, 100, 101, 100, 101, 101, 102, 103, 102, 102, 101, 102, 102, 100, 102, 102, 102, 102, 101, 102, 102, 103, 102, 102, 101, 102, 102, 103]
def mwL : List Nat := [819200, 400, 200, 2048, 700, 700, 700, 700, 700, 700, 700, 700, 700, 163840, 30, 700, 700, 31, 31, 31, 31, 31, 31, 31, 31, 31, 31, 31]
/-- the reference is well made -/
def MW (σ : Hp) (m : Nat) : Prop := tg_ σ m = 9 ∧ lo_ σ < m ∧ ∀ i, i < 28 → fR_ σ 8 (mwF.getD i 0) m = m + (1 + i) ∧ tg_ σ (m + (1 + i)) = mwT.getD i 0 ∧ ln_ σ (m + (1 + i)) = mwL.getD i 0
theorem mw_tag {σ : Hp} {m : Nat} (h : MW σ m) : tg_ σ m = 9 := h.1
theorem mw_lo {σ : Hp} {m : Nat} (h : MW σ m) : lo_ σ < m := h.2.1
theorem mw_loa {σ : Hp} {m : Nat} (h : MW σ m) (k : Nat) : lo_ σ < m + k := Nat.lt_of_lt_of_le h.2.1 (Nat.le_add_right _ _)
theorem MW.to {σ σ' : Hp} {m : Nat} (h : MW σ m) (e1 : tg_ σ' = tg_ σ) (e2 : fR_ σ' = fR_ σ) (e3 : ln_ σ' = ln_ σ) (e4 : lo_ σ' = lo_ σ) : MW σ' m := ⟨by rw [e1]; exact h.1, by rw [e4]; exact h.2.1, fun i hi => by rw [e1, e2, e3]; exact h.2.2 i hi⟩
theorem mf_3 {σ : Hp} {m : Nat} (h : MW σ m) : fR_ σ 8 3 m = m + 1 := (h.2.2 0 (by decide)).1
theorem mt_3 {σ : Hp} {m : Nat} (h : MW σ m) : tg_ σ (m + 1) = 100 := (h.2.2 0 (by decide)).2.1
theorem ml_3 {σ : Hp} {m : Nat} (h : MW σ m) : ln_ σ (m + 1) = 819200 := (h.2.2 0 (by decide)).2.2
theorem mf_4 {σ : Hp} {m : Nat} (h : MW σ m) : fR_ σ 8 4 m = m + 2 := (h.2.2 1 (by decide)).1
theorem mt_4 {σ : Hp} {m : Nat} (h : MW σ m) : tg_ σ (m + 2) = 100 := (h.2.2 1 (by decide)).2.1
theorem ml_4 {σ : Hp} {m : Nat} (h : MW σ m) : ln_ σ (m + 2) = 400 := (h.2.2 1 (by decide)).2.2
theorem mf_5 {σ : Hp} {m : Nat} (h : MW σ m) : fR_ σ 8 5 m = m + 3 := (h.2.2 2 (by decide)).1
theorem mt_5 {σ : Hp} {m : Nat} (h : MW σ m) : tg_ σ (m + 3) = 101 := (h.2.2 2 (by decide)).2.1
theorem ml_5 {σ : Hp} {m : Nat} (h : MW σ m) : ln_ σ (m + 3) = 200 := (h.2.2 2 (by decide)).2.2
theorem mf_9 {σ : Hp} {m : Nat} (h : MW σ m) : fR_ σ 8 9 m = m + 4 := (h.2.2 3 (by decide)).1
theorem mt_9 {σ : Hp} {m : Nat} (h : MW σ m) : tg_ σ (m + 4) = 100 := (h.2.2 3 (by decide)).2.1
theorem ml_9 {σ : Hp} {m : Nat} (h : MW σ m) : ln_ σ (m + 4) = 2048 := (h.2.2 3 (by decide)).2.2
theorem mf_11 {σ : Hp} {m : Nat} (h : MW σ m) : fR_ σ 8 11 m = m + 5 := (h.2.2 4 (by decide)).1
theorem mt_11 {σ : Hp} {m : Nat} (h : MW σ m) : tg_ σ (m + 5) = 101 := (h.2.2 4 (by decide)).2.1
theorem ml_11 {σ : Hp} {m : Nat} (h : MW σ m) : ln_ σ (m + 5) = 700 := (h.2.2 4 (by decide)).2.2
theorem mf_12 {σ : Hp} {m : Nat} (h : MW σ m) : fR_ σ 8 12 m = m + 6 := (h.2.2 5 (by decide)).1
theorem mt_12 {σ : Hp} {m : Nat} (h : MW σ m) : tg_ σ (m + 6) = 101 := (h.2.2 5 (by decide)).2.1
theorem ml_12 {σ : Hp} {m : Nat} (h : MW σ m) : ln_ σ (m + 6) = 700 := (h.2.2 5 (by decide)).2.2
theorem mf_13 {σ : Hp} {m : Nat} (h : MW σ m) : fR_ σ 8 13 m = m + 7 := (h.2.2 6 (by decide)).1
theorem mt_13 {σ : Hp} {m : Nat} (h : MW σ m) : tg_ σ (m + 7) = 102 := (h.2.2 6 (by decide)).2.1
theorem ml_13 {σ : Hp} {m : Nat} (h : MW σ m) : ln_ σ (m + 7) = 700 := (h.2.2 6 (by decide)).2.2
theorem mf_14 {σ : Hp} {m : Nat} (h : MW σ m) : fR_ σ 8 14 m = m + 8 := (h.2.2 7 (by decide)).1
theorem mt_14 {σ : Hp} {m : Nat} (h : MW σ m) : tg_ σ (m + 8) = 103 := (h.2.2 7 (by decide)).2.1
theorem ml_14 {σ : Hp} {m : Nat} (h : MW σ m) : ln_ σ (m + 8) = 700 := (h.2.2 7 (by decide)).2.2
theorem mf_15 {σ : Hp} {m : Nat} (h : MW σ m) : fR_ σ 8 15 m = m + 9 := (h.2.2 8 (by decide)).1
theorem mt_15 {σ : Hp} {m : Nat} (h : MW σ m) : tg_ σ (m + 9) = 102 := (h.2.2 8 (by decide)).2.1
theorem ml_15 {σ : Hp} {m : Nat} (h : MW σ m) : ln_ σ (m + 9) = 700 := (h.2.2 8 (by decide)).2.2
theorem mf_16 {σ : Hp} {m : Nat} (h : MW σ m) : fR_ σ 8 16 m = m + 10 := (h.2.2 9 (by decide)).1
theorem mt_16 {σ : Hp} {m : Nat} (h : MW σ m) : tg_ σ (m + 10) = 102 := (h.2.2 9 (by decide)).2.1
theorem ml_16 {σ : Hp} {m : Nat} (h : MW σ m) : ln_ σ (m + 10) = 700 := (h.2.2 9 (by decide)).2.2
theorem mf_17 {σ : Hp} {m : Nat} (h : MW σ m) : fR_ σ 8 17 m = m + 11 := (h.2.2 10 (by decide)).1
theorem mt_17 {σ : Hp} {m : Nat} (h : MW σ m) : tg_ σ (m + 11) = 101 := (h.2.2 10 (by decide)).2.1
theorem ml_17 {σ : Hp} {m : Nat} (h : MW σ m) : ln_ σ (m + 11) = 700 := (h.2.2 10 (by decide)).2.2
theorem mf_18 {σ : Hp} {m : Nat} (h : MW σ m) : fR_ σ 8 18 m = m + 12 := (h.2.2 11 (by decide)).1
theorem mt_18 {σ : Hp} {m : Nat} (h : MW σ m) : tg_ σ (m + 12) = 102 := (h.2.2 11 (by decide)).2.1
theorem ml_18 {σ : Hp} {m : Nat} (h : MW σ m) : ln_ σ (m + 12) = 700 := (h.2.2 11 (by decide)).2.2
theorem mf_19 {σ : Hp} {m : Nat} (h : MW σ m) : fR_ σ 8 19 m = m + 13 := (h.2.2 12 (by decide)).1
theorem mt_19 {σ : Hp} {m : Nat} (h : MW σ m) : tg_ σ (m + 13) = 102 := (h.2.2 12 (by decide)).2.1
theorem ml_19 {σ : Hp} {m : Nat} (h : MW σ m) : ln_ σ (m + 13) = 700 := (h.2.2 12 (by decide)).2.2
theorem mf_21 {σ : Hp} {m : Nat} (h : MW σ m) : fR_ σ 8 21 m = m + 14 := (h.2.2 13 (by decide)).1
theorem mt_21 {σ : Hp} {m : Nat} (h : MW σ m) : tg_ σ (m + 14) = 100 := (h.2.2 13 (by decide)).2.1
theorem ml_21 {σ : Hp} {m : Nat} (h : MW σ m) : ln_ σ (m + 14) = 163840 := (h.2.2 13 (by decide)).2.2
theorem mf_24 {σ : Hp} {m : Nat} (h : MW σ m) : fR_ σ 8 24 m = m + 15 := (h.2.2 14 (by decide)).1
theorem mt_24 {σ : Hp} {m : Nat} (h : MW σ m) : tg_ σ (m + 15) = 102 := (h.2.2 14 (by decide)).2.1
theorem ml_24 {σ : Hp} {m : Nat} (h : MW σ m) : ln_ σ (m + 15) = 30 := (h.2.2 14 (by decide)).2.2
theorem mf_25 {σ : Hp} {m : Nat} (h : MW σ m) : fR_ σ 8 25 m = m + 16 := (h.2.2 15 (by decide)).1
theorem mt_25 {σ : Hp} {m : Nat} (h : MW σ m) : tg_ σ (m + 16) = 102 := (h.2.2 15 (by decide)).2.1
theorem ml_25 {σ : Hp} {m : Nat} (h : MW σ m) : ln_ σ (m + 16) = 700 := (h.2.2 15 (by decide)).2.2
theorem mf_26 {σ : Hp} {m : Nat} (h : MW σ m) : fR_ σ 8 26 m = m + 17 := (h.2.2 16 (by decide)).1
theorem mt_26 {σ : Hp} {m : Nat} (h : MW σ m) : tg_ σ (m + 17) = 102 := (h.2.2 16 (by decide)).2.1
theorem ml_26 {σ : Hp} {m : Nat} (h : MW σ m) : ln_ σ (m + 17) = 700 := (h.2.2 16 (by decide)).2.2
theorem mf_29 {σ : Hp} {m : Nat} (h : MW σ m) : fR_ σ 8 29 m = m + 18 := (h.2.2 17 (by decide)).1
theorem mt_29 {σ : Hp} {m : Nat} (h : MW σ m) : tg_ σ (m + 18) = 102 := (h.2.2 17 (by decide)).2.1
theorem ml_29 {σ : Hp} {m : Nat} (h : MW σ m) : ln_ σ (m + 18) = 31 := (h.2.2 17 (by decide)).2.2
theorem mf_30 {σ : Hp} {m : Nat} (h : MW σ m) : fR_ σ 8 30 m = m + 19 := (h.2.2 18 (by decide)).1
theorem mt_30 {σ : Hp} {m : Nat} (h : MW σ m) : tg_ σ (m + 19) = 101 := (h.2.2 18 (by decide)).2.1
theorem ml_30 {σ : Hp} {m : Nat} (h : MW σ m) : ln_ σ (m + 19) = 31 := (h.2.2 18 (by decide)).2.2
theorem mf_31 {σ : Hp} {m : Nat} (h : MW σ m) : fR_ σ 8 31 m = m + 20 := (h.2.2 19 (by decide)).1
theorem mt_31 {σ : Hp} {m : Nat} (h : MW σ m) : tg_ σ (m + 20) = 102 := (h.2.2 19 (by decide)).2.1
theorem ml_31 {σ : Hp} {m : Nat} (h : MW σ m) : ln_ σ (m + 20) = 31 := (h.2.2 19 (by decide)).2.2
theorem mf_32 {σ : Hp} {m : Nat} (h : MW σ m) : fR_ σ 8 32 m = m + 21 := (h.2.2 20 (by decide)).1
theorem mt_32 {σ : Hp} {m : Nat} (h : MW σ m) : tg_ σ (m + 21) = 102 := (h.2.2 20 (by decide)).2.1
theorem ml_32 {σ : Hp} {m : Nat} (h : MW σ m) : ln_ σ (m + 21) = 31 := (h.2.2 20 (by decide)).2.2
theorem mf_33 {σ : Hp} {m : Nat} (h : MW σ m) : fR_ σ 8 33 m = m + 22 := (h.2.2 21 (by decide)).1
theorem mt_33 {σ : Hp} {m : Nat} (h : MW σ m) : tg_ σ (m + 22) = 103 := (h.2.2 21 (by decide)).2.1
theorem ml_33 {σ : Hp} {m : Nat} (h : MW σ m) : ln_ σ (m + 22) = 31 := (h.2.2 21 (by decide)).2.2
theorem mf_34 {σ : Hp} {m : Nat} (h : MW σ m) : fR_ σ 8 34 m = m + 23 := (h.2.2 22 (by decide)).1
theorem mt_34 {σ : Hp} {m : Nat} (h : MW σ m) : tg_ σ (m + 23) = 102 := (h.2.2 22 (by decide)).2.1
theorem ml_34 {σ : Hp} {m : Nat} (h : MW σ m) : ln_ σ (m + 23) = 31 := (h.2.2 22 (by decide)).2.2
theorem mf_36 {σ : Hp} {m : Nat} (h : MW σ m) : fR_ σ 8 36 m = m + 24 := (h.2.2 23 (by decide)).1
theorem mt_36 {σ : Hp} {m : Nat} (h : MW σ m) : tg_ σ (m + 24) = 102 := (h.2.2 23 (by decide)).2.1
theorem ml_36 {σ : Hp} {m : Nat} (h : MW σ m) : ln_ σ (m + 24) = 31 := (h.2.2 23 (by decide)).2.2
theorem mf_37 {σ : Hp} {m : Nat} (h : MW σ m) : fR_ σ 8 37 m = m + 25 := (h.2.2 24 (by decide)).1
theorem mt_37 {σ : Hp} {m : Nat} (h : MW σ m) : tg_ σ (m + 25) = 101 := (h.2.2 24 (by decide)).2.1
theorem ml_37 {σ : Hp} {m : Nat} (h : MW σ m) : ln_ σ (m + 25) = 31 := (h.2.2 24 (by decide)).2.2
theorem mf_38 {σ : Hp} {m : Nat} (h : MW σ m) : fR_ σ 8 38 m = m + 26 := (h.2.2 25 (by decide)).1
theorem mt_38 {σ : Hp} {m : Nat} (h : MW σ m) : tg_ σ (m + 26) = 102 := (h.2.2 25 (by decide)).2.1
theorem ml_38 {σ : Hp} {m : Nat} (h : MW σ m) : ln_ σ (m + 26) = 31 := (h.2.2 25 (by decide)).2.2
theorem mf_39 {σ : Hp} {m : Nat} (h : MW σ m) : fR_ σ 8 39 m = m + 27 := (h.2.2 26 (by decide)).1
theorem mt_39 {σ : Hp} {m : Nat} (h : MW σ m) : tg_ σ (m + 27) = 102 := (h.2.2 26 (by decide)).2.1
theorem ml_39 {σ : Hp} {m : Nat} (h : MW σ m) : ln_ σ (m + 27) = 31 := (h.2.2 26 (by decide)).2.2
theorem mf_40 {σ : Hp} {m : Nat} (h : MW σ m) : fR_ σ 8 40 m = m + 28 := (h.2.2 27 (by decide)).1
theorem mt_40 {σ : Hp} {m : Nat} (h : MW σ m) : tg_ σ (m + 28) = 103 := (h.2.2 27 (by decide)).2.1
theorem ml_40 {σ : Hp} {m : Nat} (h : MW σ m) : ln_ σ (m + 28) = 31 := (h.2.2 27 (by decide)).2.2
