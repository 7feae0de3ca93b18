/-! THE DESCRIPTION: bytes put over bytes -/
def ov (f : Nat → Nat) (p : Nat) (l : List Nat) : Nat → Nat := fun i => if p ≤ i ∧ i < p + l.length then l.getD (i - p) 0 else f i
/-- a page: a list's bytes, zeros behind them -/
def pz (l : List Nat) : Nat → Nat := fun i => l.getD i 0
theorem ov_in {f : Nat → Nat} {p i : Nat} {l : List Nat} (h : i < l.length) : ov f p l (p + i) = l.getD i 0 := by
  unfold ov
  rw [if_pos (by omega), show p + i - p = i by omega]
theorem ov_out {f : Nat → Nat} {p i : Nat} {l : List Nat} (h : i < p ∨ p + l.length ≤ i) : ov f p l i = f i := by
  unfold ov
  rw [if_neg (by omega)]
theorem ov_nil {f : Nat → Nat} {p : Nat} : ov f p [] = f := by
  funext i
  exact ov_out (by simp; omega)
theorem getD_app {a b : List Nat} {i : Nat} : (a ++ b).getD i 0 = if i < a.length then a.getD i 0 else b.getD (i - a.length) 0 := by
  split
  · rename_i h
    rw [List.getD_eq_getElem?_getD, List.getElem?_append_left h, ← List.getD_eq_getElem?_getD]
  · rename_i h
    rw [List.getD_eq_getElem?_getD, List.getElem?_append_right (by omega), ← List.getD_eq_getElem?_getD]
theorem ov_app {f : Nat → Nat} {p q : Nat} {a b : List Nat} (h : q = p + a.length) : ov (ov f p a) q b = ov f p (a ++ b) := by
  subst h
  funext i
  unfold ov
  rw [getD_app, List.length_append]
  by_cases h1 : p + a.length ≤ i ∧ i < p + a.length + b.length
  · rw [if_pos h1, if_pos (by omega), if_neg (by omega), show i - (p + a.length) = i - p - a.length by omega]
  · rw [if_neg h1]
    by_cases h2 : p ≤ i ∧ i < p + a.length
    · rw [if_pos h2, if_pos (by omega), if_pos (by omega)]
    · rw [if_neg h2, if_neg (by omega)]
theorem ov_comm {f : Nat → Nat} {p q : Nat} {a b : List Nat} (h : p + a.length ≤ q ∨ q + b.length ≤ p) : ov (ov f p a) q b = ov (ov f q b) p a := by
  funext i
  unfold ov
  by_cases h1 : q ≤ i ∧ i < q + b.length
  · rw [if_pos h1, if_neg (by omega), if_pos h1]
  · rw [if_neg h1, if_neg h1]
/-- zeros put where zeros are -/
theorem ov_z {f : Nat → Nat} {p g : Nat} (h : ∀ i, p ≤ i → i < p + g → f i = 0) : ov f p (List.replicate g 0) = f := by
  funext i
  unfold ov
  rw [List.length_replicate]
  by_cases h1 : p ≤ i ∧ i < p + g
  · rw [if_pos h1, h i h1.1 h1.2, List.getD_eq_getElem?_getD, List.getElem?_replicate]
    split <;> rfl
  · rw [if_neg h1]
theorem ov_gap {f : Nat → Nat} {p q g : Nat} {a b : List Nat} (h : q = p + a.length + g) (hz : ∀ i, p ≤ i → f i = 0) : ov (ov f p a) q b = ov f p (a ++ (List.replicate g 0 ++ b)) := by
  rw [← ov_app (q := p + a.length) rfl, ← ov_app (q := q) (by rw [List.length_replicate]; omega)]
  rw [ov_z (p := p + a.length)]
  intro i h1 h2
  rw [ov_out (by omega)]
  exact hz i (by omega)
theorem pz_ov (a b : List Nat) : ov (pz a) a.length b = pz (a ++ b) := by
  funext i
  unfold pz
  rw [getD_app]
  unfold ov
  by_cases h : i < a.length
  · rw [if_neg (by omega), if_pos h]
  · rw [if_neg h]
    by_cases h2 : i < a.length + b.length
    · rw [if_pos (by omega)]
    · rw [if_neg (by omega)]
      show a.getD i 0 = _
      rw [List.getD_eq_getElem?_getD, List.getD_eq_getElem?_getD, List.getElem?_eq_none (by omega), List.getElem?_eq_none (by omega)]
theorem pz_nil : pz [] = fun _ => 0 := by funext i; simp [pz]
theorem pz_hi {l : List Nat} {i : Nat} (h : l.length ≤ i) : pz l i = 0 := by
  unfold pz
  rw [List.getD_eq_getElem?_getD, List.getElem?_eq_none h]; rfl
/-! the tree: many, is there, directory, parent, name, size, seed, written, extent -/
abbrev TT : Type := Nat × (Nat → Bool) × (Nat → Nat) × (Nat → Nat) × (Nat → List Nat) × (Nat → Nat) × (Nat → Nat) × (Nat → Bool) × (Nat → Nat)
def tN (t : TT) : Nat := t.1
def tT (t : TT) : Nat → Bool := t.2.1
def tD (t : TT) : Nat → Nat := t.2.2.1
def tP (t : TT) : Nat → Nat := t.2.2.2.1
def tM (t : TT) : Nat → List Nat := t.2.2.2.2.1
def tS (t : TT) : Nat → Nat := t.2.2.2.2.2.1
def tE (t : TT) : Nat → Nat := t.2.2.2.2.2.2.1
def tW (t : TT) : Nat → Bool := t.2.2.2.2.2.2.2.1
def tX (t : TT) : Nat → Nat := t.2.2.2.2.2.2.2.2
/-- those that are there, by number -/
def tL (t : TT) : List Nat := (List.range (tN t)).filter (tT t)
def tI (t : TT) (k : Nat) : List Nat := idb (tM t k) (tD t k)
/-- the nodes of a directory, in order -/
def chl (t : TT) (d : Nat) : List Nat := (tL t).filter (fun k => decide (0 < k ∧ tP t k = d))
def insL (t : TT) (x : Nat) : List Nat → List Nat
  | [] => [x]
  | y :: l => if lx (tI t x) (tI t y) then x :: y :: l else y :: insL t x l
def srt (t : TT) (d : Nat) : List Nat := (chl t d).foldl (fun l x => insL t x l) []
/-- directories in the path table's order -/
def bfs (t : TT) : Nat → Nat → List Nat → List Nat
  | 0, _, tb => tb
  | j + 1, i, tb => if i < tb.length then bfs t j (i + 1) (tb ++ (srt t (tb.getD i 0)).filter (fun k => tD t k == 1)) else tb
def dirT (t : TT) : List Nat := bfs t 31 0 [0]
def ev (n : Nat) : Nat := n + n % 2
/-- a record, its padding too -/
def recP (id : List Nat) (sec size flag : Nat) : List Nat := [ev (33 + id.length), 0] ++ (lowB 4 sec ++ (highB 4 sec ++ (lowB 4 size ++ (highB 4 size ++ ([0, 0, 0, 0, 0, 0, 0, flag, 0, 0, 1, 0, 0, 1, id.length] ++ (id ++ List.replicate (id.length % 2 * 0 + (33 + id.length) % 2) 0))))))
/-- a directory's place in the table -/
def plc (tb : List Nat) (d : Nat) : Nat := tb.idxOf d
/-- what the record of node k says: its sector, its size -/
def rSec (t : TT) (tb : List Nat) (base k : Nat) : Nat := if tD t k = 1 then base + 20 + plc tb k else tX t k
def rSiz (t : TT) (k : Nat) : Nat := if tD t k = 1 then 2048 else tS t k
def rFlg (t : TT) (k : Nat) : Nat := if tD t k = 1 then 2 else 0
def recN (t : TT) (tb : List Nat) (base k : Nat) : List Nat := recP (tI t k) (rSec t tb base k) (rSiz t k) (rFlg t k)
def recS (t : TT) (tb : List Nat) (base s k : Nat) : List Nat := recP [s] (rSec t tb base k) (rSiz t k) (rFlg t k)
/-- a directory's page -/
def dirL (t : TT) (tb : List Nat) (base d : Nat) : List Nat := recS t tb base 0 d ++ (recS t tb base 1 (if d = 0 then 0 else tP t d) ++ ((srt t d).map (recN t tb base)).flatten)
def ptN (t : TT) (tb : List Nat) (base : Nat) (lo : Bool) (i : Nat) : List Nat := ptE lo (if i = 0 then [0] else tM t (tb.getD i 0)) (base + 20 + i) (if i = 0 then 1 else plc tb (tP t (tb.getD i 0)) + 1)
def ptT (t : TT) (tb : List Nat) (base : Nat) (lo : Bool) : Nat → List Nat
  | 0 => []
  | j + 1 => ptT t tb base lo j ++ ptN t tb base lo j
def desL (n : Nat) (t : TT) (tb : List Nat) (base : Nat) : List Nat := [1, 67, 68, 48, 48, 49, 1] ++ (List.replicate 73 0 ++ (lowB 4 n ++ (highB 4 n ++ (List.replicate 40 0 ++ (lowB 2 2048 ++ (highB 2 2048 ++ (lowB 4 (ptT t tb base true tb.length).length ++ (highB 4 (ptT t tb base true tb.length).length ++ (lowB 4 (base + 18) ++ (List.replicate 4 0 ++ (highB 4 (base + 19) ++ (List.replicate 4 0 ++ recS t tb base 0 0))))))))))))
/-- sector 16 + j of a session -/
def pgS (n : Nat) (t : TT) (tb : List Nat) (base num j : Nat) : List Nat := if j = 0 then desL n t tb base else if j = 1 then [255, 67, 68, 48, 48, 49, 1] else if j = 2 then ptT t tb base true tb.length else if j = 3 then ptT t tb base false tb.length else if j < 4 + tb.length then dirL t tb base (tb.getD (j - 4) 0) else [77, 65, 82, 75] ++ (lowB 4 base ++ lowB 4 num)
/-! burning: bytes, states, left, writes, lost -/
abbrev BS : Type := (Nat → Nat) × (Nat → Nat) × Int32 × Int32 × Bool
def bB (b : BS) : Nat → Nat := b.1
def bSt (b : BS) : Nat → Nat := b.2.1
def bL (b : BS) : Int32 := b.2.2.1
def bWr (b : BS) : Int32 := b.2.2.2.1
def bLo (b : BS) : Bool := b.2.2.2.2
def up1 (f : Nat → Nat) (k v : Nat) : Nat → Nat := fun j => if j = k then v else f j
/-- a page goes to a sector -/
def ovP (f : Nat → Nat) (s : Nat) (g : Nat → Nat) : Nat → Nat := fun i => if 2048 * s ≤ i ∧ i < 2048 * s + 2048 then g (i - 2048 * s) else f i
def burn1 (Df : Nat → Bool) (s : Nat) (g : Nat → Nat) (b : BS) : Nat × BS :=
  if bL b = 0 then (2, (bB b, up1 (bSt b) s 2, bL b, bWr b + 1, true))
  else if Df s then (1, (bB b, up1 (bSt b) s 2, (if bL b ≤ 0 then bL b else bL b - 1), bWr b + 1, bLo b))
  else (0, (ovP (bB b) s g, up1 (bSt b) s 1, (if bL b ≤ 0 then bL b else bL b - 1), bWr b + 1, bLo b))
def burnS (Df : Nat → Bool) (s : Nat) (g : Nat → Nat → Nat) : Nat → Nat → BS → Nat × BS
  | 0, _, b => (0, b)
  | r + 1, i, b => if (burn1 Df (s + i) (g i) b).1 = 0 then burnS Df s g r (i + 1) (burn1 Df (s + i) (g i) b).2 else burn1 Df (s + i) (g i) b
def frt (St : Nat → Nat) : Nat → Nat
  | 0 => 0
  | f + 1 => if St f = 0 then frt St f else f + 1
theorem frt_le (St : Nat → Nat) : ∀ n, frt St n ≤ n
  | 0 => Nat.le_refl _
  | f + 1 => by
    unfold frt
    split
    · have := frt_le St f; omega
    · omega
/-- a file's extent: 0 with its sector, 3 full, 4 lost -/
def layB (n : Nat) (Df : Nat → Bool) (need : Nat) (g : Nat → Nat → Nat) : Nat → BS → Nat × Nat × BS
  | 0, b => (3, 0, b)
  | j + 1, b => if n < frt (bSt b) n + need then (3, 0, b) else
      if (burnS Df (frt (bSt b) n) g need 0 b).1 = 2 then (4, 0, (burnS Df (frt (bSt b) n) g need 0 b).2) else
      if (burnS Df (frt (bSt b) n) g need 0 b).1 = 1 then layB n Df need g j (burnS Df (frt (bSt b) n) g need 0 b).2 else (0, frt (bSt b) n, (burnS Df (frt (bSt b) n) g need 0 b).2)
/-- a session: 0 well, 3 full, 4 lost -/
def sesB (n : Nat) (Df : Nat → Bool) (t : TT) (tb : List Nat) (num : Nat) : Nat → BS → Nat × BS
  | 0, b => (3, b)
  | j + 1, b => if n < frt (bSt b) n + 21 + tb.length then (3, b) else
      if (burnS Df (frt (bSt b) n + 16) (fun i => pz (pgS n t tb (frt (bSt b) n) num i)) (5 + tb.length) 0 b).1 = 2 then (4, (burnS Df (frt (bSt b) n + 16) (fun i => pz (pgS n t tb (frt (bSt b) n) num i)) (5 + tb.length) 0 b).2) else
      if (burnS Df (frt (bSt b) n + 16) (fun i => pz (pgS n t tb (frt (bSt b) n) num i)) (5 + tb.length) 0 b).1 = 1 then sesB n Df t tb num j (burnS Df (frt (bSt b) n + 16) (fun i => pz (pgS n t tb (frt (bSt b) n) num i)) (5 + tb.length) 0 b).2 else (0, (burnS Df (frt (bSt b) n + 16) (fun i => pz (pgS n t tb (frt (bSt b) n) num i)) (5 + tb.length) 0 b).2)
/-- a file's page j -/
def filP (t : TT) (B : Nat → Nat) (k : Nat) (old : Bool) (j : Nat) : Nat → Nat := fun i => if 2048 * j + i < tS t k then (if old then B (2048 * tX t k + (2048 * j + i)) else (tE t k + 3 * (2048 * j + i) + (2048 * j + i) / 128) % 256) else 0
