/-! THE READER: the twin's conditions: nodes, pile -/
def ndN (m : Mu) (i : Nat) : Nd := (m.2 42 i, m.2 43 i, m.2 44 i, m.2 45 i)
def NDS (m : Mu) : Nat → List Nd → Prop
  | _, [] => True
  | k, q :: es => ndN m k = q ∧ NDS m (k + 1) es
theorem NDS_app {m : Mu} : ∀ (a b : List Nd) (k : Nat), NDS m k (a ++ b) ↔ NDS m k a ∧ NDS m (k + a.length) b := by
  intro a
  induction a with
  | nil => intro b k; simp [NDS]
  | cons q t ih =>
    intro b k
    simp only [List.cons_append, NDS, List.length_cons]
    rw [ih, and_assoc, show k + 1 + t.length = k + (t.length + 1) by omega]
theorem NDS_cg {m m' : Mu} : ∀ (a : List Nd) (k : Nat), (∀ i, k ≤ i → i < k + a.length → ndN m' i = ndN m i) → NDS m k a → NDS m' k a := by
  intro a
  induction a with
  | nil => intro k _ _; trivial
  | cons q t ih =>
    intro k h hn
    simp only [List.length_cons] at h
    exact ⟨by rw [h k (by omega) (by omega)]; exact hn.1, ih (k + 1) (fun i h1 h2 => h i (by omega) (by omega)) hn.2⟩
theorem NDS_get {m : Mu} : ∀ (a : List Nd) (k : Nat), NDS m k a → a = (List.range a.length).map (fun i => ndN m (k + i)) := by
  intro a
  induction a with
  | nil => intro k _; rfl
  | cons q t ih =>
    intro k h
    rw [List.length_cons, List.range_succ_eq_map, List.map_cons, List.map_map, ← h.1]
    congr 1
    rw [ih (k + 1) h.2]
    simp only [List.length_map, List.length_range]
    refine List.map_congr_left (fun i _ => ?_)
    show ndN m (k + 1 + i) = ndN m (k + (i + 1))
    rw [show k + 1 + i = k + (i + 1) by omega]
/-- the pile, the top first -/
def PL (A : Nat → Int) : List Int → Prop
  | [] => True
  | x :: S => A S.length = x ∧ PL A S
theorem PL_cg {A A' : Nat → Int} : ∀ S, (∀ i, i < S.length → A' i = A i) → PL A S → PL A' S := by
  intro S
  induction S with
  | nil => intro _ _; trivial
  | cons x S ih => intro h hp; exact ⟨by rw [h S.length (by simp)]; exact hp.1, ih (fun i hi => h i (by simp; omega)) hp.2⟩
/-- made nodes, the pile -/
def PM (m : Mu) (S : List Int) : Prop := m.1 49 = (S.length : Int) ∧ PL (m.2 48) S ∧ (∀ x ∈ S, x = 2 ∨ x = 3 ∨ x = 4 ∨ x = 8) ∧ 0 ≤ m.1 46 ∧ m.1 46 + (S.length : Int) ≤ 4090
theorem m_emit {m : Mu} {x : Int} (hx : 0 ≤ x ∧ x ≤ 8) (h0 : 0 ≤ m.1 46) (h1 : m.1 46 < 4100) : m5_emit x m = some (ms (ma m 42 (m.1 46).toNat x) 46 (m.1 46 + 1)) := by
  unfold m5_emit
  rw [w8_id (x := x) (by omega) (by omega), w8_id (x := x) (by omega) (by omega), mast_e (m.1 46).toNat (by omega) (by omega) (by omega), Option.bind_some, Option.bind_some]
  rfl
/-- an operator is taken from the pile and made a node -/
def popM (m : Mu) (x : Int) : Mu := ms (ms (ma m 42 (m.1 46).toNat x) 46 (m.1 46 + 1)) 49 (m.1 49 - 1)
theorem popM_fr {m : Mu} {x : Int} : mfr [46, 49] [42] m (popM m x) := mfr_ms (mfr_ms (mfr_ma mfr_rf (by simp)) (by simp)) (by simp)
theorem popM_46 {m : Mu} {x : Int} : (popM m x).1 46 = m.1 46 + 1 := by unfold popM; rw [ms_1, if_neg (by decide), ms_1, if_pos rfl]
theorem popM_49 {m : Mu} {x : Int} : (popM m x).1 49 = m.1 49 - 1 := by unfold popM; rw [ms_1, if_pos rfl]
theorem popM_42 {m : Mu} {x : Int} (i : Nat) : (popM m x).2 42 i = if i = (m.1 46).toNat then x else m.2 42 i := by
  unfold popM
  rw [ms_2, ms_2, ma_s]
theorem popM_nd {m : Mu} {x : Int} (i : Nat) : ndN (popM m x) i = if i = (m.1 46).toNat then (x, m.2 43 i, m.2 44 i, m.2 45 i) else ndN m i := by
  unfold ndN
  rw [popM_42, popM_fr.2 43 (by simp), popM_fr.2 44 (by simp), popM_fr.2 45 (by simp)]
  split <;> rfl
theorem popM_PM {m : Mu} {x : Int} {S : List Int} (h : PM m (x :: S)) : PM (popM m x) S := by
  obtain ⟨h1, h2, h3, h4, h5⟩ := h
  simp only [List.length_cons] at h1 h5
  refine ⟨by rw [popM_49, h1]; omega, ?_, fun y hy => h3 y (List.mem_cons_of_mem _ hy), by rw [popM_46]; omega, by rw [popM_46]; omega⟩
  rw [popM_fr.2 48 (by simp)]
  exact h2.2
theorem top_e {m : Mu} {x : Int} {S : List Int} (h : PM m (x :: S)) : mald m 48 4100 (m.1 49 - 1) = some x := by
  obtain ⟨h1, h2, h3, h4, h5⟩ := h
  simp only [List.length_cons] at h1 h5
  rw [mald_e S.length (by omega) (by omega) (by omega), h2.1]
theorem m_onTop {m : Mu} {S : List Int} (h : PM m S) {y : Int} (hy : 0 ≤ y ∧ y ≤ 8) : m5_onTop y m = some (b2i (decide (S.head? = some y))) := by
  unfold m5_onTop
  have hl := h.2.2.2.2
  have h4 := h.2.2.2.1
  rw [w32_id (x := m.1 49) (by have := h.1; omega) (by have := h.1; omega)]
  cases S with
  | nil =>
    rw [if_pos (by rw [h.1]; simp), decide_eq_false (by simp)]; rfl
  | cons x S =>
    have hx := h.2.2.1 x List.mem_cons_self
    rw [if_neg (by rw [h.1]; simp), top_e h, Option.bind_some, w32_id (x := x) (by omega) (by omega), w32_id (x := y) (by omega) (by omega)]
    by_cases z : x = y
    · rw [if_pos z, decide_eq_true (by simp [z])]; rfl
    · rw [if_neg z, decide_eq_false (by simp [z])]; rfl
theorem pop_e {m : Mu} {x : Int} {S : List Int} (h : PM m (x :: S)) {α : Type} (kh : Mu → Option α) : ((mald m 48 4100 (m.1 49 - 1)).bind fun x1 => (m5_emit x1 m).bind fun u2 => (some (ms u2 49 (u2.1 49 - 1))).bind fun u3 => kh u3) = kh (popM m x) := by
  have hx := h.2.2.1 x List.mem_cons_self
  have h5 := h.2.2.2.2
  simp only [List.length_cons] at h5
  rw [top_e h, Option.bind_some, m_emit (by omega) h.2.2.2.1 (by omega), Option.bind_some, Option.bind_some]
  rfl
/-! the NOs on top are taken off -/
def nots : List Int → Nat
  | [] => 0
  | x :: S => if x = 2 then nots S + 1 else 0
def strip : List Int → List Int
  | [] => []
  | x :: S => if x = 2 then strip S else x :: S
theorem nots_len : ∀ S, nots S + (strip S).length = S.length := by
  intro S
  induction S with
  | nil => rfl
  | cons x S ih =>
    simp only [nots, strip]
    split
    · simp only [List.length_cons]; omega
    · simp
theorem strip_head : ∀ S, (strip S).head? ≠ some 2 := by
  intro S
  induction S with
  | nil => simp [strip]
  | cons x S ih =>
    simp only [strip]
    split
    · exact ih
    · next h => simp [h]
theorem m_endPart : ∀ (S : List Int) (m : Mu) (n : Nat), PM m S → S.length < n → ∃ (m' : Mu) (es : List Nd), m5_endPart_l0 n m = some m' ∧ PM m' (strip S) ∧ mfr [46, 49, 50] [42] m m' ∧ es.length = nots S ∧ (∀ q ∈ es, q.1 = 2) ∧ m'.1 46 = m.1 46 + (nots S : Int) ∧ m'.1 50 = m.1 50 - (nots S : Int) ∧ NDS m' (m.1 46).toNat es ∧ ∀ i, i < (m.1 46).toNat → ndN m' i = ndN m i := by
  intro S
  induction S with
  | nil =>
    intro m n h hn
    obtain ⟨n, rfl⟩ : ∃ k, n = k + 1 := ⟨n - 1, by omega⟩
    refine ⟨m, [], ?_, h, mfr_rf, rfl, fun q hq => (by cases hq), by simp [nots], by simp [nots], trivial, fun _ _ => rfl⟩
    unfold m5_endPart_l0
    rw [if_pos (by rw [h.1]; decide)]
  | cons x S ih =>
    intro m n h hn
    obtain ⟨n, rfl⟩ : ∃ k, n = k + 1 := ⟨n - 1, by omega⟩
    simp only [List.length_cons] at hn
    have hx := h.2.2.1 x List.mem_cons_self
    have h5 := h.2.2.2.2
    have h4 := h.2.2.2.1
    simp only [List.length_cons] at h5
    have h1 := h.1
    simp only [List.length_cons] at h1
    unfold m5_endPart_l0
    rw [w32_id (x := m.1 49) (by omega) (by omega), if_neg (by omega), top_e h, Option.bind_some, w32_id (x := x) (by omega) (by omega)]
    by_cases z : x = 2
    · subst z
      rw [if_pos rfl, m_emit (by omega) h4 (by omega), Option.bind_some, Option.bind_some, Option.bind_some]
      obtain ⟨m1, hm1⟩ : ∃ m1, m1 = ms (popM m 2) 50 ((popM m 2).1 50 - 1) := ⟨_, rfl⟩
      have em1 : ms (ms (ms (ma m 42 (m.1 46).toNat 2) 46 (m.1 46 + 1)) 49 ((ms (ma m 42 (m.1 46).toNat 2) 46 (m.1 46 + 1)).1 49 - 1)) 50 ((ms (ms (ma m 42 (m.1 46).toNat 2) 46 (m.1 46 + 1)) 49 ((ms (ma m 42 (m.1 46).toNat 2) 46 (m.1 46 + 1)).1 49 - 1)).1 50 - 1) = m1 := by rw [hm1]; rfl
      rw [em1]
      have o1 : ∀ k, k ≠ 50 → m1.1 k = (popM m 2).1 k := fun k hk => by rw [hm1, ms_1, if_neg hk]
      have hP : PM m1 S := by
        have := popM_PM h
        unfold PM
        rw [o1 49 (by decide), o1 46 (by decide), show m1.2 = (popM m 2).2 by rw [hm1]; rfl]
        exact this
      have fr1 : mfr [46, 49, 50] [42] m m1 := by rw [hm1]; exact mfr_ms (mfr_up popM_fr (by simp) (by simp)) (by simp)
      have e46 : m1.1 46 = m.1 46 + 1 := by rw [o1 46 (by decide), popM_46]
      have e50 : m1.1 50 = m.1 50 - 1 := by rw [hm1, ms_1, if_pos rfl, popM_fr.1 50 (by simp)]
      have nd1 : ∀ i, ndN m1 i = ndN (popM m 2) i := fun i => by rw [hm1]; rfl
      obtain ⟨m', es, e1, p1, p2, p3, p4, p5, p6, p7, p8⟩ := ih m1 n hP (by omega)
      have hT : (m1.1 46).toNat = (m.1 46).toNat + 1 := by omega
      refine ⟨m', (2, m.2 43 (m.1 46).toNat, m.2 44 (m.1 46).toNat, m.2 45 (m.1 46).toNat) :: es, e1, ?_, mfr_tr fr1 p2, ?_, ?_, ?_, ?_, ⟨?_, by rw [← hT]; exact p7⟩, fun i hi => ?_⟩
      · simp only [strip]; rw [if_pos trivial]; exact p1
      · simp only [nots, List.length_cons]; rw [if_pos trivial, p3]
      · intro q hq
        rcases List.mem_cons.mp hq with rfl | hq
        · rfl
        · exact p4 q hq
      · simp only [nots]; rw [if_pos trivial, p5, e46]; omega
      · simp only [nots]; rw [if_pos trivial, p6, e50]; omega
      · rw [p8 _ (by omega), nd1, popM_nd, if_pos rfl]
      · rw [p8 i (by omega), nd1, popM_nd, if_neg (by omega)]
    · rw [if_neg z]
      refine ⟨m, [], rfl, ?_, mfr_rf, ?_, fun q hq => (by cases hq), ?_, ?_, trivial, fun _ _ => rfl⟩
      · simp only [strip]; rw [if_neg z]; exact h
      · simp only [nots]; rw [if_neg z]; rfl
      · simp only [nots]; rw [if_neg z]; simp
      · simp only [nots]; rw [if_neg z]; simp
/-! operators are taken off -/
/-- the state behind taking the operators ops off the top -/
def popL (m : Mu) : List Int → Mu
  | [] => m
  | x :: S => popL (popM m x) S
theorem popL_ok : ∀ (ops S : List Int) (m : Mu), PM m (ops ++ S) → ∃ es : List Nd, es.map (fun q => q.1) = ops ∧ PM (popL m ops) S ∧ mfr [46, 49] [42] m (popL m ops) ∧ (popL m ops).1 46 = m.1 46 + (ops.length : Int) ∧ NDS (popL m ops) (m.1 46).toNat es ∧ ∀ i, i < (m.1 46).toNat → ndN (popL m ops) i = ndN m i := by
  intro ops
  induction ops with
  | nil => intro S m h; exact ⟨[], rfl, h, mfr_rf, by simp [popL], trivial, fun _ _ => rfl⟩
  | cons x ops ih =>
    intro S m h
    have h4 := h.2.2.2.1
    obtain ⟨es, p1, p2, p3, p4, p5, p6⟩ := ih S (popM m x) (popM_PM h)
    rw [popM_46] at p4 p5 p6
    have hT : (m.1 46 + 1).toNat = (m.1 46).toNat + 1 := by omega
    refine ⟨(x, m.2 43 (m.1 46).toNat, m.2 44 (m.1 46).toNat, m.2 45 (m.1 46).toNat) :: es, by simp [p1], p2, mfr_tr popM_fr p3, ?_, ⟨?_, by rw [← hT]; exact p5⟩, fun i hi => ?_⟩
    · show (popL (popM m x) ops).1 46 = _
      rw [p4]; simp; omega
    · show ndN (popL (popM m x) ops) _ = _
      rw [p6 _ (by omega), popM_nd, if_pos rfl]
    · show ndN (popL (popM m x) ops) i = _
      rw [p6 i (by omega), popM_nd, if_neg (by omega)]
theorem m_pop219 {v : Int} : ∀ (ops S : List Int) (m : Mu) (n : Nat), PM m (ops ++ S) → (∀ x ∈ ops, x = 3 ∨ x = 4) → (S.head? ≠ some 3 ∧ S.head? ≠ some 4) → ops.length < n → m5_cond_l219 v n m = some (popL m ops) := by
  intro ops
  induction ops with
  | nil =>
    intro S m n h _ hS hn
    obtain ⟨n, rfl⟩ : ∃ k, n = k + 1 := ⟨n - 1, by omega⟩
    unfold m5_cond_l219
    rw [List.nil_append] at h
    rw [m_onTop h (by omega), Option.bind_some, w32_b2i, decide_eq_false hS.1, if_pos (show b2i false = 0 from rfl), m_onTop h (by omega), Option.bind_some, w32_b2i, decide_eq_false hS.2, if_pos (show b2i false = 0 from rfl)]
    rfl
  | cons x ops ih =>
    intro S m n h ho hS hn
    obtain ⟨n, rfl⟩ : ∃ k, n = k + 1 := ⟨n - 1, by omega⟩
    simp only [List.length_cons] at hn
    have hrec := ih S (popM m x) n (popM_PM h) (fun y hy => ho y (List.mem_cons_of_mem _ hy)) hS (by omega)
    have b235 : m5_cond_b235 (m5_cond_l219 v n) v m = some (popL m (x :: ops)) := by
      unfold m5_cond_b235
      rw [pop_e h]; exact hrec
    unfold m5_cond_l219
    rw [m_onTop h (by omega), Option.bind_some, w32_b2i]
    rcases ho x List.mem_cons_self with z | z
    · rw [decide_eq_true (by simp [z]), if_neg (by decide)]; exact b235
    · rw [decide_eq_false (by simp [z]), if_pos (show b2i false = 0 from rfl), m_onTop h (by omega), Option.bind_some, w32_b2i, decide_eq_true (by simp [z]), if_neg (by decide)]; exact b235
/-- at an and (b true) the ands alone, at an or both kinds -/
theorem m_pop134 {b : Bool} : ∀ (ops S : List Int) (m : Mu) (n : Nat), PM m (ops ++ S) → (∀ x ∈ ops, x = 3 ∨ (b = false ∧ x = 4)) → (S.head? ≠ some 3 ∧ (b = false → S.head? ≠ some 4)) → ops.length < n → m5_cond_l134 (b2i b) n m = some (popL m ops) := by
  intro ops
  induction ops with
  | nil =>
    intro S m n h _ hS hn
    obtain ⟨n, rfl⟩ : ∃ k, n = k + 1 := ⟨n - 1, by omega⟩
    rw [List.nil_append] at h
    unfold m5_cond_l134
    rw [m_onTop h (by omega), Option.bind_some, w32_b2i, decide_eq_false hS.1, if_pos (show b2i false = 0 from rfl), w32_b2i]
    cases b
    · rw [if_pos (show b2i false = 0 from rfl), m_onTop h (by omega), Option.bind_some, w32_b2i, decide_eq_false (hS.2 rfl), if_pos (show b2i false = 0 from rfl)]; rfl
    · rw [if_neg (by decide)]; rfl
  | cons x ops ih =>
    intro S m n h ho hS hn
    obtain ⟨n, rfl⟩ : ∃ k, n = k + 1 := ⟨n - 1, by omega⟩
    simp only [List.length_cons] at hn
    have hrec := ih S (popM m x) n (popM_PM h) (fun y hy => ho y (List.mem_cons_of_mem _ hy)) hS (by omega)
    have b154 : m5_cond_b154 (m5_cond_l134 (b2i b) n) (b2i b) m = some (popL m (x :: ops)) := by
      unfold m5_cond_b154
      rw [pop_e h]; exact hrec
    unfold m5_cond_l134
    rw [m_onTop h (by omega), Option.bind_some, w32_b2i]
    rcases ho x List.mem_cons_self with z | ⟨z1, z⟩
    · rw [decide_eq_true (by simp [z]), if_neg (by decide)]; exact b154
    · subst z1
      rw [decide_eq_false (by simp [z]), if_pos (show b2i false = 0 from rfl), w32_b2i, if_pos (show b2i false = 0 from rfl), m_onTop h (by omega), Option.bind_some, w32_b2i, decide_eq_true (by simp [z]), if_neg (by decide)]; exact b154
