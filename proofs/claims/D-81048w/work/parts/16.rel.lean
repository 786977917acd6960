/-! THE RELATION between the class's heap and the twin's state -/
/-- how long a wording's part of the twin's array k is -/
def wid : Nat → Nat := fun k => match k with
  | 12 => 1 | 13 => 8 | 14 => 8 | 15 => 8 | 16 => 48 | 17 => 8 | 18 => 8 | 19 => 1 | 20 => 12 | 21 => 12 | 22 => 12 | 23 => 1 | 24 => 24 | 25 => 24 | 26 => 24 | 27 => 1
  | 28 => 24 | 29 => 24 | 30 => 24 | 31 => 24 | 32 => 5 | 33 => 1 | 34 => 2400 | 35 => 2400 | 36 => 2400 | 37 => 2400 | 38 => 4864 | 39 => 8 | 40 => 1 | 41 => 2000 | _ => 0
/-- a wording's value: its parts of the twin's arrays -/
abbrev Wv : Type := Nat → Nat → Int
def slc (m : Mu) (w : Nat) : Wv := fun k j => if j < wid k then m.2 k (wid k * w + j) else 0
theorem slc_e {m : Mu} {w k j : Nat} (i : Nat) (h : j < wid k) (hi : wid k * w + j = i) : m.2 k i = slc m w k j := by unfold slc; rw [if_pos h, hi]
/-- facts, meanings, clauses, price rows -/
abbrev nF (W : Wv) : Nat := (W 12 0).toNat
abbrev nM (W : Wv) : Nat := (W 19 0).toNat
abbrev nC (W : Wv) : Nat := (W 23 0).toNat
abbrev nP (W : Wv) : Nat := (W 27 0).toNat
abbrev nS (W : Wv) (f : Nat) : Nat := (W 39 f).toNat
def nd (W : Wv) (i : Nat) : Nd := (W 34 i, W 35 i, W 36 i, W 37 i)
/-- the nodes from i to j -/
def seg (W : Wv) (i j : Int) : List Nd := (List.range (j.toNat - i.toNat)).map fun k => nd W (i.toNat + k)
/-- the truths of the first k meanings -/
def mnA (W : Wv) (vals : Nat → Int) : Nat → Nat → Int
  | 0 => fun _ => 0
  | k + 1 => fun j => if j = k then b2i (tru vals (mnA W vals k) (seg W (W 21 k) (W 22 k))) else mnA W vals k j
def mnO (W : Wv) (vals : Nat → Int) : Nat → Int := mnA W vals (nM W)
/-- behind the first k clauses: the answer, whether covered, who decided -/
def clF (W : Wv) (vals : Nat → Int) : Nat → Bool × Bool × Int
  | 0 => (false, false, 0)
  | k + 1 => if tru vals (mnO W vals) (seg W (W 25 k) (W 26 k)) = false ∨ (W 24 k = 2 ∧ (clF W vals k).2.1 = false) then clF W vals k else (decide (W 24 k ≠ 1), (clF W vals k).2.1 || decide (W 24 k = 0), (k : Int) + 1)
def ansO (W : Wv) (vals : Nat → Int) : Bool := (clF W vals (nC W)).1
def decO (W : Wv) (vals : Nat → Int) : Int := (clF W vals (nC W)).2.2
/-- the ways of the facts from f on; the digit of the fact f in the way c; the least values of a way -/
def uni (W : Wv) : Nat → Nat → Nat
  | 0, _ => 1
  | k + 1, f => nS W f * uni W k (f + 1)
/-- the ways of the facts behind f -/
def unit (W : Wv) (f : Nat) : Nat := uni W (nF W - (f + 1)) (f + 1)
def dig (W : Wv) (c f : Nat) : Nat := c / unit W f % nS W f
def val0 (W : Wv) (c : Nat) : Nat → Int := fun f => W 38 (608 * f + dig W c f)
/-- a segment is a condition whose nodes are in bounds -/
def sgO (W : Wv) (nm : Int) (i j : Int) : Prop := 0 ≤ i ∧ i < j ∧ j ≤ W 33 0 ∧ isC (seg W i j) ∧ ∀ q ∈ seg W i j, okN (W 12 0) nm q
/-- a sum: told or not -/
def smO (x hi : Int) : Prop := x = -3 ∨ (0 ≤ x ∧ x ≤ hi)
/-- how many times stand behind the last round, of the first k price rows -/
def tmB (W : Wv) : Nat → Nat
  | 0 => 0
  | k + 1 => if W 28 k = 18 then 0 else if W 28 k = 16 then tmB W k + 1 else tmB W k
/-- where a node parts the numbers of the fact f -/
def thN (f : Int) (q : Nd) (v : Int) : Prop := q.1 = 0 ∧ q.2.1 = f ∧ ((v = q.2.2.2 ∧ q.2.2.1 ≠ 2 ∧ q.2.2.1 ≠ 3) ∨ (v = q.2.2.2 + 1 ∧ q.2.2.1 ≠ 1 ∧ q.2.2.1 ≠ 4))
/-- the starts of a fact's cells: those it begins with, and those that P gives -/
def bsX (kind lo hi x : Int) : Prop := if kind = 2 then x = lo else lo ≤ x ∧ x ≤ hi
def stX (kind lo hi : Int) (P : Int → Prop) (x : Int) : Prop := bsX kind lo hi x ∨ (lo < x ∧ x ≤ hi ∧ P x)
/-- those of a wording -/
def thr (W : Wv) (f : Nat) (x : Int) : Prop := stX (W 14 f) (W 17 f) (W 18 f) (fun x => ∃ i : Nat, (i : Int) < W 33 0 ∧ thN f (nd W i) x) x
/-- each node is of a meaning, a clause or a price row -/
def cov (W : Wv) : Prop := ∀ i : Nat, (i : Int) < W 33 0 → (∃ k, k < nM W ∧ W 21 k ≤ (i : Int) ∧ (i : Int) < W 22 k) ∨ (∃ k, k < nC W ∧ W 25 k ≤ (i : Int) ∧ (i : Int) < W 26 k) ∨ (∃ k, k < nP W ∧ W 30 k ≤ (i : Int) ∧ (i : Int) < W 31 k)
/-- a wording's value is in order -/
def WM (W : Wv) : Prop :=
  (0 ≤ W 12 0 ∧ W 12 0 ≤ 8 ∧ 0 ≤ W 19 0 ∧ W 19 0 ≤ 12 ∧ 0 ≤ W 23 0 ∧ W 23 0 ≤ 24 ∧ 0 ≤ W 27 0 ∧ W 27 0 ≤ 24 ∧ 0 ≤ W 33 0 ∧ W 33 0 ≤ 300) ∧
  (∀ f, f < nF W → 0 ≤ W 14 f ∧ W 14 f ≤ 2 ∧ 0 ≤ W 15 f ∧ W 15 f ≤ 6 ∧ (W 14 f ≠ 1 → W 15 f = 0) ∧ (W 14 f = 1 → 2 ≤ W 15 f ∧ W 17 f = 0 ∧ W 18 f = W 15 f - 1) ∧ (W 14 f = 0 → W 17 f = 0 ∧ W 18 f = 1) ∧ (W 14 f = 2 → 0 ≤ W 17 f ∧ W 17 f < W 18 f ∧ W 18 f ≤ 999999999)) ∧
  (∀ k, k < nM W → sgO W k (W 21 k) (W 22 k)) ∧
  (∀ k, k < nC W → 0 ≤ W 24 k ∧ W 24 k ≤ 2 ∧ sgO W (W 19 0) (W 25 k) (W 26 k)) ∧
  (∀ k, k < nP W → 15 ≤ W 28 k ∧ W 28 k ≤ 19 ∧ (if W 28 k = 18 then 1 else 0) ≤ W 29 k ∧ W 29 k ≤ 9999999 ∧ (W 30 k = W 31 k ∨ ((W 28 k = 16 ∨ W 28 k = 17) ∧ sgO W (W 19 0) (W 30 k) (W 31 k)))) ∧
  (smO (W 32 0) 99999999 ∧ smO (W 32 1) 1000 ∧ smO (W 32 2) 99999999 ∧ smO (W 32 3) 99999999 ∧ smO (W 32 4) 99999999 ∧ ∀ k, k ≤ nP W → tmB W k ≤ 3) ∧
  (∀ f, f < nF W → 1 ≤ W 39 f ∧ W 39 f ≤ 601 ∧ W 38 (608 * f) = W 17 f ∧ (∀ k, k + 1 < nS W f → W 38 (608 * f + k) < W 38 (608 * f + (k + 1))) ∧ (∀ k, k < nS W f → W 38 (608 * f + k) ≤ W 18 f)) ∧
  (W 40 0 = (uni W (nF W) 0 : Nat) ∧ W 40 0 ≤ 2000) ∧
  (∀ c, c < uni W (nF W) 0 → W 41 c = b2i (ansO W (val0 W c))) ∧
  -- no test of a number parts two values of one cell
  ((∀ f k x, f < nF W → k < nS W f → W 38 (608 * f + k) ≤ x → x ≤ W 18 f → (k + 1 < nS W f → x < W 38 (608 * f + (k + 1))) → ∀ i : Nat, (i : Int) < W 33 0 → W 34 i = 0 → W 35 i = (f : Int) → hS (W 36 i) x (W 37 i) = hS (W 36 i) (W 38 (608 * f + k)) (W 37 i)) ∧ (∀ f, f < nF W → ∀ x, thr W f x ↔ ∃ k, k < nS W f ∧ W 38 (608 * f + k) = x) ∧ cov W)
/-- a name: bytes, once with 8 bits each, once with 7 -/
def enc (b : Nat) (cs : List Nat) : Nat := cs.foldl (fun a c => a * b + c) 0
def chr (c : Nat) : Prop := (97 ≤ c ∧ c ≤ 122) ∨ (48 ≤ c ∧ c ≤ 57)
def NM (x y : Int) : Prop := ∃ cs : List Nat, (∀ c ∈ cs, chr c) ∧ 1 ≤ cs.length ∧ cs.length ≤ 8 ∧ x = (enc 256 cs : Nat) ∧ y = (enc 128 cs : Nat)
/-- a frozen array of ints (bytes, booleans): tag t, n long -/
def AF (L : Ly) (u : Sg) (a t n : Nat) : Prop := L.2 a = 1 ∧ zT u a = t ∧ zL u a = n
/-- a fact at a -/
def FA (L : Ly) (u : Sg) (W : Wv) (a f : Nat) : Prop := L.2 a = 1 ∧ zT u a = 10 ∧ NM (zI u a 360) (W 13 f) ∧ zI u a 361 = W 14 f ∧ zI u a 363 = W 15 f ∧ zI u a 364 = W 17 f ∧ zI u a 365 = W 18 f ∧ ∃ c, zR u a 362 = some c ∧ AF L u c 104 6 ∧ ∀ k : Nat, (k : Int) < W 15 f → NM (zA u c k) (W 16 (6 * f + k))
/-- a Starts at a for the fact f -/
def SA (L : Ly) (u : Sg) (W : Wv) (a f : Nat) : Prop := L.2 a = 1 ∧ zT u a = 5 ∧ zI u a 161 = W 39 f ∧ ∃ r, zR u a 160 = some r ∧ AF L u r 101 (nS W f) ∧ ∀ k, k < nS W f → zA u r k = W 38 (608 * f + k)
/-- frozen, and no fact of numbers is asked for one of its values -/
def FW (L : Ly) (u : Sg) (W : Wv) (q : Nat) : Prop := L.2 q = 1 ∧ (zT u q = 14 → W 14 (zI u q 520).toNat ≠ 2)
/-- the wording W at a -/
def WA (G : CG) (L : Ly) (u : Sg) (a : Nat) (W : Wv) : Prop :=
  (L.2 a = 1 ∧ zT u a = 7) ∧
  (∃ l el, zR u a 240 = some l ∧ LF L u l (nF W) el ∧ ∀ f, f < nF W → FA L u W (el f) f) ∧
  (∃ l el, zR u a 241 = some l ∧ LF L u l (nM W) el ∧ ∀ k, k < nM W → L.2 (el k) = 1 ∧ zT u (el k) = 29 ∧ NM (zI u (el k) 1120) (W 20 k)) ∧
  (∃ l el, zR u a 242 = some l ∧ LF L u l (nM W) el ∧ ∀ k, k < nM W → CA (FW L u W) G u 100 (el k) (seg W (W 21 k) (W 22 k))) ∧
  (∃ l el, zR u a 243 = some l ∧ LF L u l (nC W) el ∧ ∀ k, k < nC W → L.2 (el k) = 1 ∧ zT u (el k) = 17 ∧ zI u (el k) 640 = W 24 k ∧ zI u (el k) 642 = W 26 k - W 25 k ∧ ∃ c, zR u (el k) 641 = some c ∧ CA (FW L u W) G u 100 c (seg W (W 25 k) (W 26 k))) ∧
  (∃ l el, zR u a 244 = some l ∧ LF L u l (nP W) el ∧ ∀ k, k < nP W → L.2 (el k) = 1 ∧ zT u (el k) = 18 ∧ zI u (el k) 680 + 15 = W 28 k ∧ zI u (el k) 681 = W 29 k ∧ ((zR u (el k) 682 = none ∧ W 30 k = W 31 k) ∨ (W 30 k < W 31 k ∧ ∃ c, zR u (el k) 682 = some c ∧ CA (FW L u W) G u 100 c (seg W (W 30 k) (W 31 k))))) ∧
  (zI u a 245 = W 32 0 ∧ zI u a 246 = W 32 1 ∧ ∃ d, zR u a 247 = some d ∧ AF L u d 101 3 ∧ ∀ k, k < 3 → zA u d k = W 32 (2 + k)) ∧
  (zI u a 249 = W 33 0 ∧ zI u a 251 = W 40 0 ∧ zI u a 248 = ((List.range (nM W)).map fun k => W 22 k - W 21 k).sum + ((List.range (nP W)).map fun k => W 31 k - W 30 k).sum) ∧
  (∃ l el, zR u a 250 = some l ∧ LF L u l (nF W) el ∧ ∀ f, f < nF W → SA L u W (el f) f) ∧
  (∃ d e, zR u a 252 = some d ∧ zR u a 253 = some e ∧ AF L u d 102 (uni W (nF W) 0) ∧ AF L u e 102 (uni W (nF W) 0) ∧ ∀ c, c < uni W (nF W) 0 → zA u d c = W 41 c ∧ zA u e c = decO W (val0 W c))
/-- a row of late tellings (Known): its object, values, days by roles r, r + 1, r + 2 -/
def KA (G : CG) (L : Ly) (u : Sg) (r : Nat) (n : Int) (vs ds : Nat → Int) : Prop := zT u (L.1 r) = 20 ∧ G0 G ≤ L.1 r ∧ L.2 (L.1 r) = r ∧ zI u (L.1 r) 762 = n ∧ 0 ≤ n ∧ n ≤ 6 ∧ (∀ j, j < 2 → zR u (L.1 r) (760 + j) = some (L.1 (r + 1 + j)) ∧ zT u (L.1 (r + 1 + j)) = 101 ∧ zL u (L.1 (r + 1 + j)) = 6 ∧ G0 G ≤ L.1 (r + 1 + j) ∧ L.2 (L.1 (r + 1 + j)) = r + 1 + j) ∧ ∀ k : Nat, (k : Int) < n → zA u (L.1 (r + 1)) k = vs k ∧ zA u (L.1 (r + 2)) k = ds k
/-- numbers that lie in the object and in the twin's scalars -/
def RS (L : Ly) (u : Sg) (m : Mu) : Prop :=
  zI u (L.1 3) 2 = m.1 2 ∧ 0 ≤ m.1 2 ∧ m.1 2 ≤ 4000 ∧ zI u (L.1 3) 3 = m.1 10 ∧ zI u (L.1 3) 12 = m.1 97 ∧ 0 ≤ m.1 97 ∧ m.1 97 ≤ 6 ∧ zI u (L.1 3) 22 = m.1 102 ∧ 0 ≤ m.1 102 ∧ m.1 102 ≤ 400 ∧
  (zI u (L.1 3) 23 = m.1 101 ∨ (zI u (L.1 3) 23 = 0 ∧ m.1 101 = -1)) ∧ -1 ≤ m.1 101 ∧ m.1 101 ≤ 9999 ∧ zI u (L.1 3) 26 = m.1 111 ∧ 0 ≤ m.1 111 ∧ m.1 111 ≤ 200 ∧ zI u (L.1 3) 31 = m.1 115 ∧ (m.1 115 = 0 ∨ m.1 115 = 1)
/-- the words of a text -/
def wdC : Nat → List Nat := fun i => match i with
  | 0 => [102, 97, 99, 116]
  | 1 => [121, 101, 115]
  | 2 => [111, 110, 101]
  | 3 => [102, 114, 111, 109]
  | 4 => [116, 111]
  | 5 => [109, 101, 97, 110]
  | 6 => [99, 111, 118, 101, 114]
  | 7 => [108, 101, 97, 118, 101]
  | 8 => [98, 97, 99, 107]
  | 9 => [102, 105, 114, 115, 116]
  | 10 => [115, 104, 97, 114, 101]
  | 11 => [109, 111, 115, 116]
  | 12 => [101, 118, 101, 110, 116]
  | 13 => [121, 101, 97, 114]
  | 14 => [97, 108, 108]
  | 15 => [114, 97, 116, 101]
  | 16 => [116, 105, 109, 101, 115]
  | 17 => [112, 108, 117, 115]
  | 18 => [114, 111, 117, 110, 100]
  | 19 => [108, 101, 97, 115, 116]
  | 20 => [105, 102]
  | 21 => [111, 114]
  | 22 => [97, 110, 100]
  | 23 => [110, 111, 116]
  | 24 => [115, 116, 114, 105, 107, 101]
  | 25 => [105, 110, 115, 116, 101, 97, 100]
  | 26 => [97, 108, 119, 97, 121, 115]
  | 27 => [110, 101, 118, 101, 114]
  | 28 => [109, 97, 121]
  | _ => []
/-- text, words, treaties, the book, sizes and counts, masses -/
def RA (L : Ly) (u : Sg) (m : Mu) : Prop :=
  (∀ i : Nat, (i : Int) < m.1 2 → zA u (L.1 101) i = m.2 1 i) ∧
  (∀ i : Nat, (i : Int) < m.1 97 → zA u (L.1 109) i = m.2 98 i ∧ zA u (L.1 110) i = m.2 99 i ∧ zA u (L.1 111) i = m.2 100 i ∧ (m.2 98 i = 0 ∨ m.2 98 i = 1) ∧ 0 ≤ m.2 99 i ∧ m.2 99 i ≤ (if m.2 98 i = 0 then 1000 else 99999999) ∧ (m.2 98 i = 1 → 0 ≤ m.2 100 i ∧ m.2 100 i ≤ 99999999)) ∧
  (∀ i : Nat, (i : Int) < m.1 102 → zA u (L.1 118) i = m.2 103 i ∧ zA u (L.1 119) i = m.2 104 i ∧ zA u (L.1 120) i = m.2 105 i ∧ zA u (L.1 121) i = m.2 106 i ∧ (-2147483648 ≤ m.2 104 i ∧ m.2 104 i < 2147483648) ∧ -2147483648 ≤ m.2 105 i ∧ m.2 105 i < 2147483648) ∧
  (∀ i : Nat, i < 401 → zA u (L.1 125) i = m.2 109 i ∧ 0 ≤ m.2 109 i ∧ m.2 109 i ≤ 100) ∧ ((List.range 401).map (fun i => m.2 109 i)).sum = m.1 111 ∧
  (∀ i : Nat, i < 5 → zA u (L.1 127) i = m.2 110 i ∧ 0 ≤ m.2 110 i ∧ m.2 110 i ≤ 200) ∧
  (m.1 115 = 1 → ∀ i : Nat, i < 1601 → zA u (L.1 128) i = m.2 112 i ∧ 0 ≤ m.2 112 i ∧ m.2 112 i ≤ 1600000000000) ∧
  (∀ i : Nat, i < 29 → zA u (L.1 100) i = (enc 256 (wdC i) : Nat) ∧ m.2 0 i = (enc 128 (wdC i) : Nat))
/-- what compare and judge have left -/
def RJ (L : Ly) (u : Sg) (m : Mu) : Prop :=
  (∀ s, s < 2 → (zA u (L.1 148) s = 0 ∨ zA u (L.1 148) s = 1) ∧ (zA u (L.1 148) s = 1 ↔ m.1 68 = 1 ∧ 0 ≤ m.2 67 s) ∧ (zA u (L.1 148) s = 1 → zI u (L.1 115) 125 = m.2 67 s ∧ m.2 67 s ≤ 8 ∧ ∀ f : Nat, (f : Int) < m.2 67 s → zA u (L.1 147) (8 * s + f) = m.2 66 (8 * s + f))) ∧
  (m.1 68 = 0 ∨ m.1 68 = 1) ∧ (∀ s, s < 2 → -1 ≤ m.2 67 s ∧ m.2 67 s ≤ 8) ∧ (zI u (L.1 115) 127 = 0 ∨ zI u (L.1 115) 127 = 1) ∧ (zI u (L.1 115) 127 = 1 ↔ 0 ≤ m.1 70) ∧ -1 ≤ m.1 70 ∧ m.1 70 ≤ 8 ∧ (0 ≤ m.1 70 → zI u (L.1 115) 128 = m.1 70 ∧ ∀ f : Nat, (f : Int) < m.1 70 → zA u (L.1 149) f = m.2 69 f)
/-- the wordings -/
def RW (G : CG) (L : Ly) (u : Sg) (m : Mu) : Prop := 0 ≤ m.1 11 ∧ m.1 11 ≤ 12 ∧ ML G u L 105 151 (m.1 11).toNat (fun i => L.1 (301 + i)) ∧ ∀ w : Nat, 1 ≤ w → (w : Int) ≤ m.1 11 → WM (slc m w) ∧ WA G L u (L.1 (300 + w)) (slc m w)
/-- an event -/
def EE (G : CG) (L : Ly) (u : Sg) (m : Mu) (e : Nat) : Prop := 1 ≤ m.2 72 e ∧ m.2 72 e ≤ m.1 11 ∧ L.2 (L.1 (400 + e)) = 1 ∧ zT u (L.1 (400 + e)) = 19 ∧ zR u (L.1 (400 + e)) 720 = some (L.1 (300 + (m.2 72 e).toNat)) ∧ ∃ l, zR u (L.1 (400 + e)) 721 = some l ∧ LF L u l (nF (slc m (m.2 72 e).toNat)) (fun f => L.1 (1000 + 64 * e + 8 * f)) ∧ ∀ f, f < nF (slc m (m.2 72 e).toNat) → KA G L u (1000 + 64 * e + 8 * f) (m.2 75 (8 * e + f)) (fun k => m.2 73 (6 * (8 * e + f) + k)) (fun k => m.2 74 (6 * (8 * e + f) + k)) ∧ ∀ k : Nat, (k : Int) < m.2 75 (8 * e + f) → (m.2 73 (6 * (8 * e + f) + k) = -1 ∨ (slc m (m.2 72 e).toNat 17 f ≤ m.2 73 (6 * (8 * e + f) + k) ∧ m.2 73 (6 * (8 * e + f) + k) ≤ slc m (m.2 72 e).toNat 18 f)) ∧ 0 ≤ m.2 74 (6 * (8 * e + f) + k) ∧ m.2 74 (6 * (8 * e + f) + k) ≤ 9999
/-- the events -/
def RE (G : CG) (L : Ly) (u : Sg) (m : Mu) : Prop := 0 ≤ m.1 71 ∧ m.1 71 ≤ 32 ∧ ML G u L 106 152 (m.1 71).toNat (fun i => L.1 (401 + i)) ∧ ∀ e : Nat, 1 ≤ e → (e : Int) ≤ m.1 71 → EE G L u m e
/-- a policy -/
def PE (G : CG) (L : Ly) (u : Sg) (m : Mu) (p : Nat) : Prop := zT u (L.1 (5000 + 8 * p)) = 21 ∧ G0 G ≤ L.1 (5000 + 8 * p) ∧ L.2 (L.1 (5000 + 8 * p)) = 5000 + 8 * p ∧ zI u (L.1 (5000 + 8 * p)) 804 = m.2 82 p ∧ 0 ≤ m.2 82 p ∧ m.2 82 p ≤ 24 ∧ (∀ j, j < 4 → zR u (L.1 (5000 + 8 * p)) (800 + j) = some (L.1 (5001 + 8 * p + j)) ∧ zT u (L.1 (5001 + 8 * p + j)) = 101 ∧ zL u (L.1 (5001 + 8 * p + j)) = 24 ∧ G0 G ≤ L.1 (5001 + 8 * p + j) ∧ L.2 (L.1 (5001 + 8 * p + j)) = 5001 + 8 * p + j) ∧
  ∀ k : Nat, (k : Int) < m.2 82 p → (∀ j, j < 4 → zA u (L.1 (5001 + 8 * p + j)) k = m.2 (83 + j) (24 * p + k)) ∧ 0 ≤ m.2 83 (24 * p + k) ∧ m.2 83 (24 * p + k) ≤ 2 ∧ 0 ≤ m.2 84 (24 * p + k) ∧ m.2 84 (24 * p + k) ≤ 99999999 ∧ (m.2 83 (24 * p + k) = 0 → m.2 84 (24 * p + k) ≤ m.1 11) ∧ (m.2 83 (24 * p + k) = 2 → m.2 84 (24 * p + k) ≤ 1) ∧ 0 ≤ m.2 85 (24 * p + k) ∧ m.2 85 (24 * p + k) ≤ 9999 ∧ 0 ≤ m.2 86 (24 * p + k) ∧ m.2 86 (24 * p + k) ≤ 9999
/-- the policies -/
def RP (G : CG) (L : Ly) (u : Sg) (m : Mu) : Prop := 0 ≤ m.1 81 ∧ m.1 81 ≤ 12 ∧ ML G u L 107 153 (m.1 81).toNat (fun i => L.1 (5008 + 8 * i)) ∧ ∀ p : Nat, 1 ≤ p → (p : Int) ≤ m.1 81 → PE G L u m p
/-- a claim -/
def KE (G : CG) (L : Ly) (u : Sg) (m : Mu) (c : Nat) : Prop := zT u (L.1 (4000 + 8 * c)) = 22 ∧ G0 G ≤ L.1 (4000 + 8 * c) ∧ L.2 (L.1 (4000 + 8 * c)) = 4000 + 8 * c ∧ zI u (L.1 (4000 + 8 * c)) 840 = m.2 88 c ∧ 1 ≤ m.2 88 c ∧ m.2 88 c ≤ m.1 81 ∧ 1 ≤ m.2 89 c ∧ m.2 89 c ≤ m.1 71 ∧ zR u (L.1 (4000 + 8 * c)) 841 = some (L.1 (400 + (m.2 89 c).toNat)) ∧ zI u (L.1 (4000 + 8 * c)) 842 = m.2 90 c ∧ 0 ≤ m.2 90 c ∧ m.2 90 c ≤ 9999 ∧ zI u (L.1 (4000 + 8 * c)) 843 = m.2 91 c ∧ 0 ≤ m.2 91 c ∧ m.2 91 c ≤ 9999 ∧ zR u (L.1 (4000 + 8 * c)) 844 = some (L.1 (4001 + 8 * c)) ∧ KA G L u (4001 + 8 * c) (m.2 92 c) (fun k => m.2 93 (6 * c + k)) (fun k => m.2 94 (6 * c + k)) ∧ (∀ k : Nat, (k : Int) < m.2 92 c → 0 ≤ m.2 93 (6 * c + k) ∧ m.2 93 (6 * c + k) ≤ 99999999 ∧ 0 ≤ m.2 94 (6 * c + k) ∧ m.2 94 (6 * c + k) ≤ 9999) ∧ zI u (L.1 (4000 + 8 * c)) 845 = m.2 107 c ∧ zI u (L.1 (4000 + 8 * c)) 846 = m.2 108 c ∧ 0 ≤ m.2 107 c ∧ m.2 107 c ≤ 99999999 ∧ 0 ≤ m.2 108 c ∧ m.2 108 c ≤ 99999999
/-- the claims -/
def RK (G : CG) (L : Ly) (u : Sg) (m : Mu) : Prop := 0 ≤ m.1 87 ∧ m.1 87 ≤ 40 ∧ ML G u L 108 154 (m.1 87).toNat (fun i => L.1 (4008 + 8 * i)) ∧ (∀ c : Nat, 1 ≤ c → (c : Int) ≤ m.1 87 → KE G L u m c) ∧ ∀ c : Nat, m.1 87 < c → m.2 107 c = 0 ∧ m.2 108 c = 0
/-- all together -/
def RC (G : CG) (L : Ly) (u : Sg) (m : Mu) : Prop := Rt G u L ∧ RS L u m ∧ RA L u m ∧ RJ L u m ∧ RW G L u m ∧ RE G L u m ∧ RP G L u m ∧ RK G L u m
