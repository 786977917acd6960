/-! POLICIES: holds, change, policy; the tests isDay, isWording, isEvent, isPolicy, isClaim -/
theorem c_isDay {d : Int} (h : w32 d = d) : f0_isDay d = some (b2i (decide (0 ≤ d ∧ d ≤ 9999))) := by
  unfold f0_isDay
  rw [h]
  by_cases h1 : d < 0
  · rw [if_pos h1, decide_eq_false (by omega)]; rfl
  · rw [if_neg h1]
    by_cases h2 : 9999 < d
    · rw [if_pos h2, decide_eq_false (by omega)]; rfl
    · rw [if_neg h2, decide_eq_true (by omega)]; rfl
theorem m_isDay {d : Int} (h : w32 d = d) : m5_isDay d = some (b2i (decide (0 ≤ d ∧ d ≤ 9999))) := c_isDay h
theorem in_list {G : CG} {u : Sg} {a : Nat} {n v : Int} (hv : w32 v = v) (hn : 0 ≤ n ∧ n ≤ 1000) (hs : fJ2_size G (some a) u = some n) (ht : zT u a = 6) : (if w32 v ≤ 0 then some 0 else (some (some a)).bind fun x1 => (ztg u 6 x1).bind fun b2 => (fJ2_size G (some b2) u).bind fun x3 => if w32 x3 < w32 v then some 0 else some 1) = some (b2i (decide (1 ≤ v ∧ v ≤ n))) := by
  rw [hv]
  by_cases h1 : v ≤ 0
  · rw [if_pos h1, decide_eq_false (by omega)]; rfl
  · rw [if_neg h1, Option.bind_some, ztg_e ht, Option.bind_some, hs, Option.bind_some, w32_id (x := n) (by omega) (by omega)]
    by_cases h2 : n < v
    · rw [if_pos h2, decide_eq_false (by omega)]; rfl
    · rw [if_neg h2, decide_eq_true (by omega)]; rfl
theorem m_in {n v : Int} (hv : w32 v = v) (hn : 0 ≤ n ∧ n ≤ 1000) : (if w32 v < 1 then some 0 else if w32 n < w32 v then some 0 else some 1) = some (b2i (decide (1 ≤ v ∧ v ≤ n))) := by
  rw [hv, w32_id (x := n) (by omega) (by omega)]
  by_cases h1 : v < 1
  · rw [if_pos h1, decide_eq_false (by omega)]; rfl
  · rw [if_neg h1]
    by_cases h2 : n < v
    · rw [if_pos h2, decide_eq_false (by omega)]; rfl
    · rw [if_neg h2, decide_eq_true (by omega)]; rfl
theorem sz_int {G : CG} {L : Ly} {u : Sg} {r rb : Nat} {el : Nat → Nat} {x : Int} (hx : 0 ≤ x) (hm : ML G u L r rb x.toNat el) : fJ2_size G (some (L.1 r)) u = some x := by rw [ml_size hm]; congr 1; omega
theorem c_isW {G : CG} {L : Ly} {u : Sg} {m : Mu} (h : RC G L u m) {v : Int} (hv : w32 v = v) : f0_isWording G (some (L.1 3)) v u = some (b2i (decide (1 ≤ v ∧ v ≤ m.1 11))) := by
  have hW := h.2.2.2.2.1
  unfold f0_isWording
  rw [gfR_v (rT3 h.1) (rR3_5 h.1)]
  exact in_list hv ⟨hW.1, by have := hW.2.1; omega⟩ (sz_int hW.1 hW.2.2.1) hW.2.2.1.1.1
theorem m_isW {G : CG} {L : Ly} {u : Sg} {m : Mu} (h : RC G L u m) {v : Int} (hv : w32 v = v) : m5_isWording v m = some (b2i (decide (1 ≤ v ∧ v ≤ m.1 11))) := m_in hv ⟨h.2.2.2.2.1.1, by have := h.2.2.2.2.1.2.1; omega⟩
theorem c_isE {G : CG} {L : Ly} {u : Sg} {m : Mu} (h : RC G L u m) {v : Int} (hv : w32 v = v) : f0_isEvent G (some (L.1 3)) v u = some (b2i (decide (1 ≤ v ∧ v ≤ m.1 71))) := by
  have hW := h.2.2.2.2.2.1
  unfold f0_isEvent
  rw [gfR_v (rT3 h.1) (rR3_6 h.1)]
  exact in_list hv ⟨hW.1, by have := hW.2.1; omega⟩ (sz_int hW.1 hW.2.2.1) hW.2.2.1.1.1
theorem m_isE {G : CG} {L : Ly} {u : Sg} {m : Mu} (h : RC G L u m) {v : Int} (hv : w32 v = v) : m5_isEvent v m = some (b2i (decide (1 ≤ v ∧ v ≤ m.1 71))) := m_in hv ⟨h.2.2.2.2.2.1.1, by have := h.2.2.2.2.2.1.2.1; omega⟩
theorem c_isP {G : CG} {L : Ly} {u : Sg} {m : Mu} (h : RC G L u m) {v : Int} (hv : w32 v = v) : f0_isPolicy G (some (L.1 3)) v u = some (b2i (decide (1 ≤ v ∧ v ≤ m.1 81))) := by
  have hW := h.2.2.2.2.2.2.1
  unfold f0_isPolicy
  rw [gfR_v (rT3 h.1) (rR3_7 h.1)]
  exact in_list hv ⟨hW.1, by have := hW.2.1; omega⟩ (sz_int hW.1 hW.2.2.1) hW.2.2.1.1.1
theorem m_isP {G : CG} {L : Ly} {u : Sg} {m : Mu} (h : RC G L u m) {v : Int} (hv : w32 v = v) : m5_isPolicy v m = some (b2i (decide (1 ≤ v ∧ v ≤ m.1 81))) := m_in hv ⟨h.2.2.2.2.2.2.1.1, by have := h.2.2.2.2.2.2.1.2.1; omega⟩
theorem c_isK {G : CG} {L : Ly} {u : Sg} {m : Mu} (h : RC G L u m) {v : Int} (hv : w32 v = v) : f0_isClaim G (some (L.1 3)) v u = some (b2i (decide (1 ≤ v ∧ v ≤ m.1 87))) := by
  have hW := h.2.2.2.2.2.2.2
  unfold f0_isClaim
  rw [gfR_v (rT3 h.1) (rR3_8 h.1)]
  exact in_list hv ⟨hW.1, by have := hW.2.1; omega⟩ (sz_int hW.1 hW.2.2.1) hW.2.2.1.1.1
theorem m_isK {G : CG} {L : Ly} {u : Sg} {m : Mu} (h : RC G L u m) {v : Int} (hv : w32 v = v) : m5_isClaim v m = some (b2i (decide (1 ≤ v ∧ v ≤ m.1 87))) := m_in hv ⟨h.2.2.2.2.2.2.2.1, by have := h.2.2.2.2.2.2.2.2.1; omega⟩
/-- a test on both sides -/
theorem sim_test {α β : Type} {p : Prop} {d : Decidable p} {x1 x2 : Option α} {y1 y2 : Option β} {R : α → β → Prop} (h1 : ¬ p → sim x1 y1 R) (h2 : p → sim x2 y2 R) : sim (if w32 (b2i (decide p)) = 0 then x1 else x2) (if w32 (b2i (decide p)) = 0 then y1 else y2) R := by
  rw [w32_b2i]
  by_cases hp : p
  · rw [decide_eq_true hp]; exact h2 hp
  · rw [decide_eq_false hp]; exact h1 hp
theorem on_held {G : CG} {L : Ly} {u : Sg} {m : Mu} {p : Nat} (hp : p ≤ 12) (h : PE G L u m p) {w d k : Int} (hw : w32 w = w) (hd : w32 d = d) (hk : w32 k = k) : sim (f20_on G (some (L.1 (5000 + 8 * p))) w d k u) (m5_held p w d k m) (fun a b => a = b ∧ (a = 0 ∨ ∃ i : Nat, (i : Int) < m.2 82 p ∧ m.2 83 (24 * p + i) = w ∧ a = m.2 84 (24 * p + i))) := by
  obtain ⟨b1, b2, b3, b4, b5, b6, b7, b8⟩ := h
  obtain ⟨n, hn⟩ : ∃ n : Nat, m.2 82 p = n := ⟨(m.2 82 p).toNat, by omega⟩
  rw [hn] at b4 b5 b6 b8
  have rd : ∀ j i : Nat, j < 4 → i < n → gfR u 21 (800 + j) (some (L.1 (5000 + 8 * p))) = some (some (L.1 (5001 + 8 * p + j))) ∧ alI u 1 (some (L.1 (5001 + 8 * p + j))) (i : Int) = some (m.2 (83 + j) (24 * p + i)) := by
    intro j i hj hi
    obtain ⟨c1, c2, c3, c4, c5⟩ := b7 j hj
    exact ⟨gfR_v b1 c1, by rw [alI_e i c2 rfl (by omega) (by omega), (b8 i (by omega)).1 j hj]⟩
  have ml : ∀ (k i : Nat), (k = 83 ∨ k = 84 ∨ k = 85 ∨ k = 86) → i < n → mald m k 312 (24 * (p : Int) + (i : Int)) = some (m.2 k (24 * p + i)) := fun k i _ hi => mald_e (24 * p + i) (by omega) (by omega) (by omega)
  unfold f20_on m5_held
  have key := sim_loop (fun q (s : Int × Nat) => f20_on_l6 G (some (L.1 (5000 + 8 * p))) w d k u q s.1 s.2) (fun q (s : Int × Int × Int × Nat) => m5_held_l12 p w d k m q s.1 s.2.1 s.2.2.1 s.2.2.2) (fun s _ => n - s.2) (fun s t => s.2 = t.2.2.2 ∧ s.2 ≤ n ∧ ((s.1 = -1 ∧ t.1 = -1 ∧ t.2.1 = -1 ∧ t.2.2.1 = 0) ∨ ∃ f : Nat, f < n ∧ s.1 = f ∧ t.1 = m.2 85 (24 * p + f) ∧ t.2.1 = m.2 86 (24 * p + f) ∧ t.2.2.1 = m.2 84 (24 * p + f) ∧ m.2 83 (24 * p + f) = w)) (fun a b => (a = -1 ∧ b = 0) ∨ ∃ f : Nat, f < n ∧ a = f ∧ b = m.2 84 (24 * p + f) ∧ m.2 83 (24 * p + f) = w) (by
    rintro q r ⟨fd, i⟩ ⟨bf, bk, v, i2⟩ ⟨hi, hin, hI⟩ ih
    simp only at hi hin hI
    subst hi
    show sim (f20_on_l6 G (some (L.1 (5000 + 8 * p))) w d k u (q + 1) fd i) (m5_held_l12 p w d k m (r + 1) bf bk v i) _
    unfold f20_on_l6 m5_held_l12
    refine sim_L (gfI_v b1 b4) (sim_mald p rfl (by omega) (by omega) ?_)
    rw [hn, w32_n (by omega), w32_n (by omega)]
    refine sim_ite Iff.rfl (fun _ => sim_some ?_) (fun hc => ?_)
    · rcases hI with ⟨e1, e2, e3, e4⟩ | ⟨f, e1, e2, e3, e4, e5, e6⟩
      · exact Or.inl ⟨e1, e4⟩
      · exact Or.inr ⟨f, e1, e2, e5, e6⟩
    have hin2 : i < n := by omega
    obtain ⟨z1, z2, z3, z4, z5, z6, z7, z8, z9, z10, z11⟩ := b8 i (by omega)
    have skip : sim (f20_on_l6 G (some (L.1 (5000 + 8 * p))) w d k u q fd ((i : Int) + 1)) (m5_held_l12 p w d k m r bf bk v ((i : Int) + 1)) (fun a b => (a = -1 ∧ b = 0) ∨ ∃ f : Nat, f < n ∧ a = f ∧ b = m.2 84 (24 * p + f) ∧ m.2 83 (24 * p + f) = w) :=
      ih (fd, i + 1) (bf, bk, v, i + 1) ⟨rfl, by show i + 1 ≤ n; omega, hI⟩ (by show n - (i + 1) < n - i; omega)
    have take : m.2 83 (24 * p + i) = w → sim (f20_on_b107 G (f20_on_l6 G (some (L.1 (5000 + 8 * p))) w d k u q) (some (L.1 (5000 + 8 * p))) w d k fd i u) (m5_held_b105 (m5_held_l12 p w d k m r) p w d k i (24 * (p : Int) + (i : Int)) m) (fun a b => (a = -1 ∧ b = 0) ∨ ∃ f : Nat, f < n ∧ a = f ∧ b = m.2 84 (24 * p + f) ∧ m.2 83 (24 * p + f) = w) := by
      intro hwe
      unfold f20_on_b107 f20_on_b112 m5_held_b105
      refine sim_negL (by decide) ?_
      refine sim_R (ml 85 i (by simp) hin2) (sim_R (ml 86 i (by simp) hin2) (sim_R (ml 84 i (by simp) hin2) ?_))
      exact ih ((i : Int), i + 1) (_, _, _, i + 1) ⟨rfl, by show i + 1 ≤ n; omega, Or.inr ⟨i, hin2, rfl, rfl, rfl, rfl, hwe⟩⟩ (by show n - (i + 1) < n - i; omega)
    refine sim_L (rd 0 i (by omega) hin2).1 (sim_L (rd 0 i (by omega) hin2).2 (sim_R (ml 83 i (by simp) hin2) ?_))
    rw [hw, w32_id (x := m.2 (83 + 0) (24 * p + i)) (by show -2147483648 ≤ m.2 83 _; omega) (by show m.2 83 _ < 2147483648; omega)]
    refine sim_ite Iff.rfl (fun hwe => ?_) (fun _ => skip)
    refine sim_L (rd 2 i (by omega) hin2).1 (sim_L (rd 2 i (by omega) hin2).2 (sim_R (ml 85 i (by simp) hin2) ?_))
    show sim (if w32 d < w32 (m.2 85 (24 * p + i)) then _ else _) (if w32 d < w32 (m.2 85 (24 * p + i)) then _ else _) _
    refine sim_ite Iff.rfl (fun _ => skip) (fun h1 => ?_)
    refine sim_L (rd 3 i (by omega) hin2).1 (sim_L (rd 3 i (by omega) hin2).2 (sim_R (ml 86 i (by simp) hin2) ?_))
    show sim (if w32 (m.2 86 (24 * p + i)) ≤ w32 k then _ else _) (if w32 (m.2 86 (24 * p + i)) ≤ w32 k then _ else _) _
    refine sim_ite Iff.rfl (fun h2 => ?_) (fun _ => skip)
    refine sim_R (ml 85 i (by simp) hin2) ?_
    rcases hI with ⟨e1, e2, e3, e4⟩ | ⟨f, e1, e2, e3, e4, e5, e6⟩
    · subst e1 e2 e3 e4
      refine sim_posL (by decide) (sim_posR ?_ (take hwe))
      rw [w32_id (x := m.2 85 (24 * p + i)) (by omega) (by omega)]
      show (-1 : Int) < _
      omega
    · subst e2 e3 e4 e5
      obtain ⟨y1, y2, y3, y4, y5, y6, y7, y8, y9, y10, y11⟩ := b8 f (by omega)
      refine sim_negL (by rw [w32_n (by omega)]; omega) ?_
      refine sim_L (rd 2 i (by omega) hin2).1 (sim_L (rd 2 i (by omega) hin2).2 (sim_L (rd 2 f (by omega) e1).1 (sim_L (rd 2 f (by omega) e1).2 ?_)))
      show sim (if w32 (m.2 85 (24 * p + f)) < w32 (m.2 85 (24 * p + i)) then _ else _) _ _
      refine sim_ite Iff.rfl (fun _ => take hwe) (fun h3 => ?_)
      refine sim_L (rd 2 i (by omega) hin2).1 (sim_L (rd 2 i (by omega) hin2).2 (sim_L (rd 2 f (by omega) e1).1 (sim_L (rd 2 f (by omega) e1).2 (sim_R (ml 85 i (by simp) hin2) ?_))))
      show sim (if w32 (m.2 85 (24 * p + i)) = w32 (m.2 85 (24 * p + f)) then _ else _) _ _
      have stay : sim (f20_on_b111 G (f20_on_l6 G (some (L.1 (5000 + 8 * p))) w d k u q) (some (L.1 (5000 + 8 * p))) w d k f i u) (m5_held_l12 p w d k m r (m.2 85 (24 * p + f)) (m.2 86 (24 * p + f)) (m.2 84 (24 * p + f)) ((i : Int) + 1)) (fun a b => (a = -1 ∧ b = 0) ∨ ∃ f : Nat, f < n ∧ a = f ∧ b = m.2 84 (24 * p + f) ∧ m.2 83 (24 * p + f) = w) := by
        unfold f20_on_b111 f20_on_b112
        exact sim_posL (by decide) skip
      refine sim_ite Iff.rfl (fun h4 => ?_) (fun _ => stay)
      refine sim_L (rd 3 i (by omega) hin2).1 (sim_L (rd 3 i (by omega) hin2).2 (sim_L (rd 3 f (by omega) e1).1 (sim_L (rd 3 f (by omega) e1).2 (sim_R (ml 86 i (by simp) hin2) ?_))))
      show sim (if w32 (m.2 86 (24 * p + i)) < w32 (m.2 86 (24 * p + f)) then _ else _) _ _
      exact sim_ite Iff.rfl (fun _ => stay) (fun _ => take hwe)) NN NN (-1, 0) (-1, -1, 0, 0) ⟨rfl, Nat.zero_le _, Or.inl ⟨rfl, rfl, rfl, rfl⟩⟩ (NN_gt (by show n - 0 < 100000; omega)) (NN_gt (by show n - 0 < 100000; omega))
  refine sim_bind key (fun a b hq => ?_)
  rcases hq with ⟨rfl, rfl⟩ | ⟨f, e1, rfl, rfl, e2⟩
  · exact sim_negL (by decide) (sim_some ⟨rfl, Or.inl rfl⟩)
  · refine sim_posL (by rw [w32_n (by omega)]; omega) (sim_L (rd 1 f (by omega) e1).1 (sim_L (rd 1 f (by omega) e1).2 (sim_some ⟨rfl, Or.inr ⟨f, by omega, e2, rfl⟩⟩)))
theorem ml_get {G : CG} {L : Ly} {u : Sg} {r rb n : Nat} {el : Nat → Nat} (h : ML G u L r rb n el) {i : Int} (k : Nat) (hi : i = k) (hk : k < n) : fJ2_get G (some (L.1 r)) i u = some (some (el k)) := by rw [J_get h.1 k hi hk, h.2.2.2.2 k hk]
theorem pol_get {G : CG} {L : Ly} {u : Sg} {m : Mu} (h : RC G L u m) {p : Nat} (h1 : 1 ≤ p) (h2 : (p : Int) ≤ m.1 81) : fJ2_get G (some (L.1 107)) ((p : Int) - 1) u = some (some (L.1 (5000 + 8 * p))) := by
  have hW := h.2.2.2.2.2.2.1
  rw [ml_get hW.2.2.1 (p - 1) (by omega) (by omega)]
  show some (some (L.1 (5008 + 8 * (p - 1)))) = _
  rw [show 5008 + 8 * (p - 1) = 5000 + 8 * p by omega]
theorem o_holds {G : CG} {L : Ly} {u : Sg} {m : Mu} (h : RC G L u m) (p w d k : Int) (hp : w32 p = p) (hw : w32 w = w) (hd : w32 d = d) (hk : w32 k = k) : sim (f0_holds G (some (L.1 3)) p w d k u) (m5_holds p w d k m) same1 := by
  unfold f0_holds m5_holds
  refine sim_L (ztg_e (rT3 h.1)) (sim_L (c_isP h hp) (sim_R (m_isP h hp) (sim_test (fun _ => sim_some rfl) (fun h1 => ?_))))
  rw [hw]
  refine sim_ite Iff.rfl (fun _ => sim_some rfl) (fun h2 => sim_ite Iff.rfl (fun h3 => ?_) (fun _ => sim_some rfl))
  refine sim_L (c_isDay hd) (sim_R (m_isDay hd) (sim_test (fun _ => sim_some rfl) (fun h4 => ?_)))
  refine sim_L (c_isDay hk) (sim_R (m_isDay hk) (sim_test (fun _ => sim_some rfl) (fun h5 => ?_)))
  obtain ⟨q, rfl⟩ : ∃ q : Nat, p = q := ⟨p.toNat, by omega⟩
  have hW := h.2.2.2.2.2.2.1
  have hq := hW.2.2.2 q (by omega) (by omega)
  refine sim_L (gfR_v (rT3 h.1) (rR3_7 h.1)) (sim_L (ztg_e hW.2.2.1.1.1) (sim_L (pol_get h (by omega) (by omega)) (sim_L (zcast_1 hq.1) (sim_L (ztg_e hq.1) ?_))))
  exact sim_bind (on_held (by have := hW.2.1; omega) hq hw hd hk) (fun a b e => sim_some e.1)
