/-! THE CONSTRUCTOR of the class: the relation at the beginning -/
/-- where the roles lie behind the object -/
def rofs : List (Nat × Nat) := [(3, 0), (100, 1), (101, 2), (105, 3), (106, 4), (107, 5), (108, 6), (109, 7), (110, 8), (111, 9), (113, 10), (140, 11), (141, 12), (114, 13), (142, 14), (143, 15), (144, 16), (145, 17), (115, 18), (146, 19), (147, 20), (148, 21), (149, 22), (160, 23), (170, 24), (161, 26), (171, 27), (162, 28), (172, 29), (163, 30), (173, 31), (164, 32), (174, 33), (165, 34), (175, 35), (166, 36), (176, 37), (167, 38), (177, 39), (116, 40), (117, 41), (118, 42), (119, 43), (120, 44), (121, 45), (124, 46), (125, 47), (127, 48), (128, 49), (129, 50), (130, 51)]
def offR (r : Nat) : Option Nat := (rofs.find? (fun x => x.1 == r)).map Prod.snd
def colR (k : Nat) : Nat := if k = 19 ∨ k = 25 then 1 else match rofs.find? (fun x => x.2 == k) with | some x => x.1 | none => 0
/-- the layout at the beginning -/
def L00 (o bE : Nat) : Ly := (fun r => match offR r with | some k => o + k | none => bE, fun a => if a < o then 1 else if a - o < 52 then colR (a - o) else 0)
theorem L00_1 {o bE r k : Nat} (h : offR r = some k) : (L00 o bE).1 r = o + k := by
  show (match offR r with | some k => o + k | none => bE) = _
  rw [h]
theorem L00_n {o bE r : Nat} (h : offR r = none) : (L00 o bE).1 r = bE := by
  show (match offR r with | some k => o + k | none => bE) = _
  rw [h]
theorem L00_2 {o bE k : Nat} (h : k < 52) : (L00 o bE).2 (o + k) = colR k := by
  show (if o + k < o then 1 else if o + k - o < 52 then colR (o + k - o) else 0) = _
  rw [if_neg (by omega), if_pos (by omega), show o + k - o = k by omega]
/-- the twin at the beginning -/
def M00 (m : Mu) : Prop := (∀ k, m.1 k = if k = 10 ∨ k = 70 ∨ k = 101 then -1 else 0) ∧ (∀ i, i < 29 → m.2 0 i = (enc 128 (wdC i) : Nat)) ∧ ∀ k, k ≠ 0 → ∀ i, m.2 k i = 0
theorem RC_00 {G : CG} {bE : Nat} {s0 s1 t : Sg} {o : Nat} {m : Mu} (hSt : St G s0) (h0 : G0 G = o) (D : DB G bE s0 s1 (o + 40) o t 52 DBN LNN [6, 5, 4, 3] KWN (-1)) (SP : SPR G o s1 8) (hm : M00 m) : RC G (L00 o bE) t m := by
  obtain ⟨⟨a1, a2, a3, ⟨a4, a5, ag⟩, a6, a7, a8, a9, a10, a11⟩, ⟨b1, b2, b3⟩, c, d, e, f1, f2⟩ := D
  obtain ⟨m1, m2, m3⟩ := hm
  have hSt' : St G t := St_s hSt (fun q hq => a3 q (by omega))
  have hR3 : (L00 o bE).1 3 = o := (L00_1 (k := 0) (by decide)).trans (Nat.add_zero o)
  have kT : ∀ q ∈ T0, q.1 ≠ 3 → ∃ k, offR q.1 = some k ∧ (k, q.2.1, q.2.2) ∈ DBN ∧ k < 52 ∧ colR k = q.1 := by decide
  have kR : ∀ q ∈ R0, offR q.1 = some ((offR q.1).getD 0) ∧ offR q.2.2 = some ((offR q.2.2).getD 0) ∧ ((offR q.1).getD 0, q.2.1, (offR q.2.2).getD 0) ∈ LNN := by decide
  have ad : ∀ r k, offR r = some k → (L00 o bE).1 r = o + k := fun r k h => L00_1 h
  have zer : ∀ r k T n, offR r = some k → (k, T, n) ∈ DBN → k ≠ 1 → (∀ j, zI t ((L00 o bE).1 r) j = 0) ∧ ∀ j, zA t ((L00 o bE).1 r) j = 0 := fun r k T n h1 h2 h3 => by
    obtain ⟨-, -, -, -, k5, k6⟩ := c _ h2
    rw [ad r k h1]; exact ⟨k5, k6 h3⟩
  have tup : ∀ {a b : Nat} {x : Nat × Nat}, x = (a, b) → x.1 = a := fun h => by rw [h]
  have sN : SPR G o t 8 := by
    have g1 : gro s1 t := by
      rcases ag with z | z
      · omega
      · exact z
    have s19 := a5 (o + 19) (by omega) (by omega)
    have s25 := a5 (o + 25) (by omega) (by omega)
    obtain ⟨⟨q1, q2, q3, q4, q5, q6, q7, q8, q9⟩, p2, p3, p4⟩ := SP
    have hel : ∀ i x, zB s1 (o + 25) i = some x → zT t x ∈ OT ∧ x < zN t := fun i x hx => by
      obtain ⟨y1, y2⟩ := q9 i x hx
      have := g1.1
      exact ⟨by rw [(g1.2 x y2).1]; exact y1, by omega⟩
    refine ⟨⟨by rw [s19.1]; exact q1, by rw [s19.2.2.2.1]; exact q2, by rw [s19.2.2.1]; exact q3, by rw [s25.1]; exact q4, by rw [s25.2.1]; exact q5, by rw [s25.2.1]; exact q6, by omega, by omega, fun i x hx => by rw [s25.2.2.2.2.2] at hx; exact hel i x hx⟩, ⟨p2.1, fun q => p2.2.1 (by rw [← s25.2.1]; exact q), fun q => p2.2.2 (by rw [← s25.2.1]; exact q)⟩, by rw [s25.2.1]; exact p3, fun i hi => by rw [s25.2.2.2.2.2]; exact p4 i hi⟩
  have col : ∀ r k, offR r = some k → k < 52 → colR k = r → (L00 o bE).2 ((L00 o bE).1 r) = r := fun r k h1 h2 h3 => by rw [ad r k h1, L00_2 h2, h3]
  have sbE := a3 bE a7
  have hzbE : zL t bE = 0 := by rw [sbE.2.1]; exact a10
  have lists : ∀ r k rb, offR r = some k → k ∈ [6, 5, 4, 3] → colR k = r → offR rb = none → ∀ el, ML G t (L00 o bE) r rb 0 el := fun r k rb h1 h2 h3 h4 el => by
    obtain ⟨k1, k2, k3, k4⟩ := e k h2
    have e1 := ad r k h1
    have e2 := L00_n (o := o) (bE := bE) h4
    refine ⟨by rw [e1, e2]; exact k3, by rw [e1, e2]; exact k4, col r k h1 k1 h3, fun q => ?_, fun i hi => absurd hi (Nat.not_lt_zero _)⟩
    rw [e2, hzbE] at q; exact absurd q (Nat.lt_irrefl _)
  have kw : ∀ i, i < 29 → KWN[i]? = some ((enc 256 (wdC i) : Nat) : Int) := by decide
  have e100 : (L00 o bE).1 100 = o + 1 := ad 100 1 (by decide)
  have z125 := zer 125 47 101 401 (by decide) (by decide) (by decide)
  have z127 := zer 127 48 101 5 (by decide) (by decide) (by decide)
  have z148 := zer 148 21 103 2 (by decide) (by decide) (by decide)
  have z115 := zer 115 18 4 0 (by decide) (by decide) (by decide)
  have m1' : ∀ k, k ≠ 10 → k ≠ 70 → k ≠ 101 → m.1 k = 0 := fun k h1 h2 h3 => by rw [m1, if_neg (by omega)]
  have i3 : ∀ j, j ≠ 3 → zI t ((L00 o bE).1 3) j = 0 := fun j hj => by rw [hR3, b2, if_neg hj]
  have hlt : ∀ a, (L00 o bE).2 a ≠ 0 → a < zN t := fun a ha => by
    have ha : (if a < o then 1 else if a - o < 52 then colR (a - o) else 0) ≠ 0 := ha
    by_cases y : a < o
    · omega
    · by_cases y2 : a - o < 52
      · omega
      · rw [if_neg y, if_neg y2] at ha; exact absurd rfl ha
  have e146 : (L00 o bE).1 146 = o + 19 := ad 146 19 (by decide)
  have eel : ∀ i, i < 8 → (L00 o bE).1 (160 + i) = o + (if i = 0 then 23 else 24 + 2 * i) := fun i hi => by
    have : i = 0 ∨ i = 1 ∨ i = 2 ∨ i = 3 ∨ i = 4 ∨ i = 5 ∨ i = 6 ∨ i = 7 := by omega
    rcases this with rfl | rfl | rfl | rfl | rfl | rfl | rfl | rfl <;> exact ad _ _ (by decide)
  refine ⟨⟨fun q hq => ?_, fun q hq => ?_, hlt, fun a ha => ?_, by omega, hSt', o + 25, by rw [e146]; exact sN.1, by rw [e146, L00_2 (by decide)]; rfl, by rw [L00_2 (by decide)]; rfl, fun i hi => by rw [sN.2.2.2 i hi]; show _ = some ((L00 o bE).1 (160 + i)); rw [eel i hi]⟩, ?_, ⟨?_, ?_, ?_, ?_, ?_, ?_, ?_, ?_⟩, ⟨fun s hs => ?_, by rw [m1' 68 (by decide) (by decide) (by decide)]; exact Or.inl rfl, fun s _ => by rw [m3 67 (by decide)]; omega, ?_, ?_, ?_⟩, ⟨by rw [m1' 11 (by decide) (by decide) (by decide)]; exact Int.le_refl _, by rw [m1' 11 (by decide) (by decide) (by decide)]; decide, ?_, fun w q1 q2 => ?_⟩, ⟨by rw [m1' 71 (by decide) (by decide) (by decide)]; exact Int.le_refl _, by rw [m1' 71 (by decide) (by decide) (by decide)]; decide, ?_, fun w q1 q2 => ?_⟩, ⟨by rw [m1' 81 (by decide) (by decide) (by decide)]; exact Int.le_refl _, by rw [m1' 81 (by decide) (by decide) (by decide)]; decide, ?_, fun w q1 q2 => ?_⟩, ⟨by rw [m1' 87 (by decide) (by decide) (by decide)]; exact Int.le_refl _, by rw [m1' 87 (by decide) (by decide) (by decide)]; decide, ?_, fun w q1 q2 => ?_, fun c _ => ⟨by rw [m3 107 (by decide)], by rw [m3 108 (by decide)]⟩⟩⟩
  · by_cases q3 : q.1 = 3
    · have : ∀ q ∈ T0, q.1 = 3 → q.2.1 = 1 ∧ q.2.2 = 0 := by decide
      obtain ⟨t1, t2⟩ := this q hq q3
      rw [q3, t1, t2, hR3]
      refine ⟨b1, b3, ?_, by omega⟩
      have := L00_2 (o := o) (bE := bE) (k := 0) (by decide)
      rw [Nat.add_zero] at this
      rw [this]; rfl
    · obtain ⟨k, h1, h2, h3, h4⟩ := kT q hq q3
      obtain ⟨-, -, k3, k4, -⟩ := c _ h2
      dsimp only at k3 k4
      exact ⟨by rw [ad _ _ h1]; exact k3, by rw [ad _ _ h1]; exact k4, col _ _ h1 h3 h4, by rw [ad _ _ h1]; omega⟩
  · obtain ⟨h1, h2, h3⟩ := kR q hq
    rw [ad _ _ h1, ad _ _ h2]
    exact (d _ h3).2
  · show (if a < o then 1 else _) = 1
    rw [if_pos (by omega)]
  · unfold RS
    rw [i3 2 (by decide), i3 12 (by decide), i3 22 (by decide), i3 23 (by decide), i3 26 (by decide), i3 31 (by decide), hR3, b2 3, if_pos rfl, m1' 2 (by decide) (by decide) (by decide), m1' 97 (by decide) (by decide) (by decide), m1' 102 (by decide) (by decide) (by decide), m1' 111 (by decide) (by decide) (by decide), m1' 115 (by decide) (by decide) (by decide), m1 10, m1 101, if_pos (by decide), if_pos (by decide)]
    omega
  · intro i hi; rw [m1' 2 (by decide) (by decide) (by decide)] at hi; omega
  · intro i hi; rw [m1' 97 (by decide) (by decide) (by decide)] at hi; omega
  · intro i hi; rw [m1' 102 (by decide) (by decide) (by decide)] at hi; omega
  · intro i hi; rw [z125.2, m3 109 (by decide)]; omega
  · rw [m1' 111 (by decide) (by decide) (by decide), show (List.range 401).map (fun i => m.2 109 i) = (List.range 401).map (fun _ => (0 : Int)) from List.map_congr_left (fun i _ => m3 109 (by decide) i)]
    have z : ∀ n, ((List.range n).map (fun _ => (0 : Int))).sum = 0 := by
      intro n
      induction n with
      | zero => rfl
      | succ n ih => rw [List.range_succ, List.map_append, List.sum_append, ih]; rfl
    exact z 401
  · intro i hi; rw [z127.2, m3 110 (by decide)]; omega
  · intro hh; rw [m1' 115 (by decide) (by decide) (by decide)] at hh; omega
  · intro i hi
    refine ⟨?_, m2 i hi⟩
    have := f2 i (by rw [show KWN.length = 29 by decide]; exact hi)
    rw [kw i hi] at this
    rw [e100]; exact (Option.some.inj this).symm
  · rw [z148.2]
    refine ⟨Or.inl rfl, ⟨fun q => absurd q (by decide), fun q => ?_⟩, fun q => absurd q (by decide)⟩
    rw [m1' 68 (by decide) (by decide) (by decide)] at q; omega
  · rw [z115.1]; exact Or.inl rfl
  · rw [z115.1, m1 70, if_pos (by decide)]; exact ⟨fun q => absurd q (by decide), fun q => by omega⟩
  · rw [m1 70, if_pos (by decide)]; exact ⟨by omega, by omega, fun q => by omega⟩
  · rw [m1' 11 (by decide) (by decide) (by decide)]; exact lists 105 3 151 (by decide) (by decide) (by decide) (by decide) _
  · rw [m1' 11 (by decide) (by decide) (by decide)] at q2; omega
  · rw [m1' 71 (by decide) (by decide) (by decide)]; exact lists 106 4 152 (by decide) (by decide) (by decide) (by decide) _
  · rw [m1' 71 (by decide) (by decide) (by decide)] at q2; omega
  · rw [m1' 81 (by decide) (by decide) (by decide)]; exact lists 107 5 153 (by decide) (by decide) (by decide) (by decide) _
  · rw [m1' 81 (by decide) (by decide) (by decide)] at q2; omega
  · rw [m1' 87 (by decide) (by decide) (by decide)]; exact lists 108 6 154 (by decide) (by decide) (by decide) (by decide) _
  · rw [m1' 87 (by decide) (by decide) (by decide)] at q2; omega
