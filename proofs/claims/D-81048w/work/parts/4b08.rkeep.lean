/-! THE READER: what is kept; the twin's steps -/
theorem fr7_zsI {r : Nat} {t u : Sg} {b k : Nat} {v : Int} (h : fr7 r t u) (hb : zN t ≤ b) (hr : r ≠ b) : fr7 r t (zsI u b k v) := ⟨h.1, fun a h1 h2 => sam_zsI (h.2.1 a h1 h2) (by omega), h.2.2.1, h.2.2.2.1, by rw [zsI_I, if_neg (fun q => hr q.1)]; exact h.2.2.2.2⟩
theorem fr7_zsR {r : Nat} {t u : Sg} {b k : Nat} {v : Option Nat} (h : fr7 r t u) (hb : zN t ≤ b) (hr : r ≠ b) : fr7 r t (zsR u b k v) := ⟨h.1, fun a h1 h2 => sam_zsR (h.2.1 a h1 h2) (by omega), h.2.2.1, by rw [← h.2.2.2.1]; funext j; rw [zsR_R, if_neg (fun q => hr q.1)], h.2.2.2.2⟩
theorem fr7_znew {r : Nat} {t u : Sg} {T n : Nat} (h : fr7 r t u) (hr : r < zN u) : fr7 r t (znew u T n) := by
  have hN := h.1.1
  refine ⟨⟨by rw [znew_N]; omega, fun x hx => ⟨?_, ?_⟩⟩, fun a h1 h2 => sam_znew (h.2.1 a h1 h2) (by omega), ?_, ?_, ?_⟩
  · rw [znew_T, if_neg (by omega)]; exact (h.1.2 x hx).1
  · rw [znew_L, if_neg (by omega)]; exact (h.1.2 x hx).2
  · rw [znew_T, if_neg (by omega)]; exact h.2.2.1
  · rw [znew_R, if_neg (by omega)]; exact h.2.2.2.1
  · rw [znew_I, if_neg (by omega)]; exact h.2.2.2.2
/-- the depth alone is set -/
theorem fr7_287 {r : Nat} {t : Sg} {v : Int} : fr7 r t (zsI t r 287 v) := ⟨gro_rf, fun a _ h2 => sam_zsI sam_rf h2, rfl, rfl, by rw [zsI_I, if_neg (fun q => absurd q.2 (by decide))]⟩
theorem R7_k {G : CG} {L : Ly} {t t' : Sg} {m : Mu} {r : Nat} (h : R7 G L t m r) (k : fr7 r t t') (hI : ∀ j, j ≠ 287 → zI t' r j = zI t r j) : R7 G L t' m r := by
  obtain ⟨h1, h2, h3, h4, h5, h6⟩ := h
  have hN := k.1.1
  refine ⟨TX_k h1 ⟨h2.2.2.1, h2.2.2.2.1, h2.2.2.2.2.1, h2.2.2.2.2.2⟩ k rfl rfl rfl, ⟨by omega, by omega, by omega, by omega, by omega, h2.2.2.2.2.2⟩, ?_, ?_, ?_, h6⟩
  · unfold TKR
    rw [hI 280 (by decide), hI 281 (by decide), hI 282 (by decide), hI 283 (by decide), hI 284 (by decide), hI 285 (by decide)]
    exact h3
  · rw [hI 288 (by decide)]; exact h4
  · rw [hI 289 (by decide)]; exact h5
theorem R7_m {G : CG} {L : Ly} {t : Sg} {m m' : Mu} {r : Nat} (h : R7 G L t m r) (k : mfr [46, 49, 50] CA7 m m') : R7 G L t m' r := by
  obtain ⟨h1, h2, h3, h4, h5, h6⟩ := h
  have e : ∀ j, j ≠ 46 → j ≠ 49 → j ≠ 50 → m'.1 j = m.1 j := fun j a b c => k.1 j (by simp [a, b, c])
  refine ⟨TX_k h1 ⟨h2.2.2.1, h2.2.2.2.1, h2.2.2.2.2.1, h2.2.2.2.2.2⟩ fr7_rf (e 2 (by decide) (by decide) (by decide)) (k.2 0 (by decide)) (k.2 1 (by decide)), h2, ?_, ?_, ?_, ?_⟩
  · unfold TKR
    rw [e 2 (by decide) (by decide) (by decide), e 3 (by decide) (by decide) (by decide), e 4 (by decide) (by decide) (by decide), e 5 (by decide) (by decide) (by decide), e 6 (by decide) (by decide) (by decide), e 7 (by decide) (by decide) (by decide)]
    exact h3
  · rw [e 52 (by decide) (by decide) (by decide), e 2 (by decide) (by decide) (by decide), e 47 (by decide) (by decide) (by decide)]; exact h4
  · rw [e 47 (by decide) (by decide) (by decide)]; exact h5
  · rw [e 8 (by decide) (by decide) (by decide)]; exact h6
theorem St_k7 {G : CG} {r : Nat} {t t' : Sg} (h : St G t) (hG : G0 G ≤ zN t) (hr : G0 G ≤ r) (k : fr7 r t t') : St G t' := by
  have s : ∀ a, a < G0 G → sam t t' a := fun a ha => k.2.1 a (by omega) (by omega)
  obtain ⟨h1, ⟨b, b1, b2, b3, b4, b5⟩, ⟨c, c1, c2, c3, c4, c5⟩, d, d1, d2, d3, d4, d5⟩ := h
  refine ⟨fun k hk => ?_, ⟨b, b1, b2, by rw [(s b b2).1]; exact b3, by rw [(s b b2).2.1]; exact b4, by rw [(s b b2).2.2.2.2.2]; exact b5⟩, ⟨c, c1, c2, by rw [(s c c2).1]; exact c3, by rw [(s c c2).2.1]; exact c4, by rw [(s c c2).2.2.2.2.2]; exact c5⟩, d, d1, d2, by rw [(s d d2).1]; exact d3, by rw [(s d d2).2.1]; exact d4, fun k hk => ?_⟩
  · obtain ⟨x, x1, x2, x3⟩ := h1 k hk
    exact ⟨x, x1, x2, by rw [(s x x2).1]; exact x3⟩
  · obtain ⟨x, x1, x2, x3, x4⟩ := d5 k hk
    exact ⟨x, by rw [(s d d2).2.2.2.2.2]; exact x1, x2, by rw [(s x x2).1]; exact x3, by rw [(s x x2).2.2.1]; exact x4⟩
/-- old cells but the reader -/
def ZO (t : Sg) (r : Nat) : Nat → Prop := fun q => q < zN t ∧ q ≠ r
theorem ZO_k {r : Nat} {t t' : Sg} (k : fr7 r t t') : ∀ q, ZO t r q → sam t t' q ∧ ZO t' r q := fun q h => ⟨k.2.1 q h.1 h.2, by have := k.1.1; exact Nat.lt_of_lt_of_le h.1 this, h.2⟩
/-- what reading a condition needs: w the place of the wording in the twin, W its slices, a its cell -/
def CX (G : CG) (L : Ly) (t : Sg) (m : Mu) (r a w : Nat) (W : Wv) : Prop := R7 G L t m r ∧ (m.1 52 ≤ m.1 5) ∧ (LK (ZO t r) t a W ∧ zR t r 286 = some a) ∧ (slc m w = W ∧ w ≤ 13 ∧ m.1 51 = (w : Int)) ∧ St G t
theorem slc_fr {S T : List Nat} {m m' : Mu} {w : Nat} (h : mfr S T m m') (hT : ∀ k ∈ T, wid k = 0) : slc m' w = slc m w := by
  funext k j
  unfold slc
  by_cases z : j < wid k
  · rw [if_pos z, if_pos z, h.2 k (fun q => by rw [hT k q] at z; omega)]
  · rw [if_neg z, if_neg z]
theorem CA7_wid : ∀ k ∈ CA7, wid k = 0 := by decide
theorem CX_k {G : CG} {L : Ly} {t t' : Sg} {m m' : Mu} {r a w : Nat} {W : Wv} (h : CX G L t m r a w W) (hR : R7 G L t' m' r) (hc : m'.1 52 ≤ m'.1 5) (k : fr7 r t t') (km : mfr CS7 CA7 m m') : CX G L t' m' r a w W := by
  obtain ⟨h1, h2, ⟨h3, h3b⟩, ⟨h4, h5, h6⟩, h7⟩ := h
  exact ⟨hR, hc, ⟨LK_k (ZO_k k) k.1 h3, by rw [k.2.2.2.1]; exact h3b⟩, ⟨by rw [slc_fr km CA7_wid]; exact h4, h5, by rw [km.1 51 (by decide)]; exact h6⟩, St_k7 h7 h1.2.1.1 h1.1.1.2.1 k⟩
/-! the signs of tests -/
theorem GS_i {G : CG} {t : Sg} (h : St G t) {i j : Nat} (hi : i < 6) (hj : j < 6) : (GS G i = GS G j) ↔ i = j := by
  obtain ⟨x, x1, x2, x3⟩ := h.1 i hi
  obtain ⟨y, y1, y2, y3⟩ := h.1 j hj
  constructor
  · intro e
    rw [x1, y1] at e
    cases e
    omega
  · intro e; rw [e]
theorem GS_n {G : CG} {t : Sg} (h : St G t) {i : Nat} (hi : i < 6) : GS G i ≠ none := by
  obtain ⟨x, x1, -⟩ := h.1 i hi
  rw [x1]; simp
/-- the token at hand is the sign of a test -/
abbrev tst (m : Mu) : Prop := m.1 4 = 3 ∧ m.1 7 ≤ 5
theorem c_sgn {G : CG} {L : Ly} {t : Sg} {m : Mu} {r : Nat} (h : R7 G L t m r) : (¬ tst m ∧ f7_signAtHand G (some r) t = some none) ∨ (m.1 4 = 3 ∧ ∃ k : Nat, k < 6 ∧ m.1 7 = (k : Int) ∧ f7_signAtHand G (some r) t = some (GS G k)) := by
  obtain ⟨⟨a1, -⟩, -, ⟨-, -, -, -, -, t6⟩, -⟩ := h
  have key : ∀ v : Int, v ≠ 3 → w32 v ≠ 3 → zI t r 281 = v → f7_signAtHand G (some r) t = some none := fun v h1 h2 h3 => by
    unfold f7_signAtHand
    rw [gfI_v a1.1 h3, Option.bind_some, if_neg h2]
  rcases t6 with z | ⟨-, z | z | ⟨z1, z2, k, k1, k2, k3⟩ | z⟩
  · left; exact ⟨fun q => by have := q.1; omega, key 0 (by decide) (by decide) z.1⟩
  · left; exact ⟨fun q => by have := q.1; omega, key 1 (by decide) (by decide) z.1⟩
  · left; exact ⟨fun q => by have := q.1; omega, key 2 (by decide) (by decide) z.1⟩
  · have e : f7_signAtHand G (some r) t = some (if k < 6 then GS G k else none) := by
      unfold f7_signAtHand
      rw [gfI_v a1.1 z1, Option.bind_some, if_pos (by decide), gfI_v a1.1 k3, Option.bind_some, Option.bind_some, Option.bind_some, Option.bind_some, Option.bind_some, Option.bind_some]
      have hk : k = 0 ∨ k = 1 ∨ k = 2 ∨ k = 3 ∨ k = 4 ∨ k = 5 ∨ k = 6 ∨ k = 7 ∨ k = 8 ∨ k = 9 := by omega
      rcases hk with rfl | rfl | rfl | rfl | rfl | rfl | rfl | rfl | rfl | rfl <;> rfl
    by_cases q : k < 6
    · right; rw [if_pos q] at e; exact ⟨z2, k, q, k2, e⟩
    · left; rw [if_neg q] at e; exact ⟨fun q' => by have := q'.2; omega, e⟩
  · left; exact ⟨fun q => by have := q.1; omega, key 4 (by decide) (by decide) z.1⟩
/-- the twin's questions, for a number l -/
theorem m_isWq {m : Mu} (l : Int) (hl : 0 ≤ l ∧ l < 100) (h4 : w32 (m.1 4) = m.1 4) (h7 : m.1 4 = 4 → w32 (m.1 7) = m.1 7) : m5_isWord l m = some (b2i (decide (m.1 4 = 4 ∧ m.1 7 = l))) := by
  have := m_isWd (m := m) (j := l.toNat) (by omega) h4 h7
  rw [show ((l.toNat : Nat) : Int) = l by omega] at this
  exact this
theorem m_isSq {m : Mu} (l : Int) (hl : 0 ≤ l ∧ l < 100) (h4 : w32 (m.1 4) = m.1 4) (h7 : m.1 4 = 3 → w32 (m.1 7) = m.1 7) : m5_isSign l m = some (b2i (decide (m.1 4 = 3 ∧ m.1 7 = l))) := by
  have := m_isS7 (m := m) (j := l.toNat) (by omega) h4 h7
  rw [show ((l.toNat : Nat) : Int) = l by omega] at this
  exact this
theorem m_w7 {G : CG} {L : Ly} {t : Sg} {m : Mu} {r : Nat} (h : R7 G L t m r) (l : Int) (hl : 0 ≤ l ∧ l < 100) : m5_isWord l m = some (b2i (decide (m.1 4 = 4 ∧ m.1 7 = l))) := by
  obtain ⟨k1, k2⟩ := tk_w h.2.2.1
  exact m_isWq l hl k1.2.2.1 (fun z => (k2 (by omega)).1)
theorem m_s7 {G : CG} {L : Ly} {t : Sg} {m : Mu} {r : Nat} (h : R7 G L t m r) (l : Int) (hl : 0 ≤ l ∧ l < 100) : m5_isSign l m = some (b2i (decide (m.1 4 = 3 ∧ m.1 7 = l))) := by
  obtain ⟨k1, k2⟩ := tk_w h.2.2.1
  exact m_isSq l hl k1.2.2.1 (fun z => (k2 (by omega)).1)
/-! the twin's loop with its end -/
noncomputable def TC (n : Nat) (v : Int) (m : Mu) : Option Mu := (m5_cond_l12 n v m).bind (Sum.elim (fun q => some q) (Sum.elim (fun q => (m5_cannot q).bind fun u5 => some u5) (fun q => some q)))
theorem m_cond_TC {m : Mu} : m5_cond m = TC NN 1 (ms (ms m 49 0) 50 0) := by
  unfold m5_cond TC
  rw [Option.bind_some, Option.bind_some]
theorem TC_f {n : Nat} {v : Int} {m : Mu} (h : w32 (m.1 8) ≠ 0) : TC (n + 1) v m = some m := by
  unfold TC m5_cond_l12
  rw [if_neg h]
  rfl
/-- the twin's end at a fault, or at a bad token that it has not looked at -/
def MFB (m m' : Mu) (K P : Int) : Prop := MF m m' K P ∨ (K = 1 ∧ m'.1 8 = 0 ∧ m'.1 4 = 5 ∧ m'.1 5 = P ∧ mfr CS7 CA7 m m')
theorem MF_tr {m m1 m' : Mu} {K P : Int} (h : mfr CS7 CA7 m m1) (k : MF m1 m' K P) : MF m m' K P := ⟨k.1, k.2.1, mfr_tr h k.2.2⟩
theorem MFB_tr {m m1 m' : Mu} {K P : Int} (h : mfr CS7 CA7 m m1) (k : MFB m1 m' K P) : MFB m m' K P := by
  rcases k with k | ⟨k1, k2, k3, k4, k5⟩
  · exact Or.inl (MF_tr h k)
  · exact Or.inr ⟨k1, k2, k3, k4, mfr_tr h k5⟩
theorem bad1 {m : Mu} (h : m.1 8 = 0) (h4 : m.1 4 = 5) : ∃ m', (∀ n, TC (n + 2) 1 m = some m') ∧ MF m m' 1 (m.1 5) := by
  obtain ⟨m', e, hm⟩ := m_cannot h (by rw [h4]; decide)
  rw [if_pos h4] at hm
  refine ⟨m', fun n => ?_, hm⟩
  have e8 : w32 (m'.1 8) ≠ 0 := by rw [hm.1]; decide
  have := TC_f (n := n) (v := 1) e8
  unfold TC at this ⊢
  rw [m5_cond_l12.eq_2]
  rw [h, if_pos (by decide), if_neg (by decide), m_isWq _ (by decide) (by rw [h4]; decide) (fun q => by omega), Option.bind_some, decide_eq_false (by omega), if_pos (by rfl), m_isSq _ (by decide) (by rw [h4]; decide) (fun q => by omega), Option.bind_some, decide_eq_false (by omega), if_pos (by rfl), h4, if_neg (by decide), e, Option.bind_some]
  exact this
/-- the operators on top -/
theorem ops_top : ∀ S : List Int, ∃ ops S', S = ops ++ S' ∧ (∀ x ∈ ops, x = 3 ∨ x = 4) ∧ (S'.head? ≠ some 3 ∧ S'.head? ≠ some 4) := by
  intro S
  induction S with
  | nil => exact ⟨[], [], rfl, by simp, by simp⟩
  | cons x S ih =>
    obtain ⟨ops, S', h1, h2, h3⟩ := ih
    by_cases z : x = 3 ∨ x = 4
    · exact ⟨x :: ops, S', by rw [h1]; rfl, fun y hy => by
        rcases List.mem_cons.mp hy with q | q
        · rw [q]; exact z
        · exact h2 y q, h3⟩
    · exact ⟨[], x :: S, rfl, by simp, by simp; omega⟩
theorem popL_fr {m : Mu} {ops S : List Int} (h : PM m (ops ++ S)) : mfr CS7 CA7 m (popL m ops) := by
  obtain ⟨es, -, -, k, -⟩ := popL_ok ops S m h
  exact mfr_up k (by decide) (by decide)
theorem popL_o {m : Mu} {ops S : List Int} (h : PM m (ops ++ S)) (j : Nat) (h1 : j ≠ 46) (h2 : j ≠ 49) : (popL m ops).1 j = m.1 j := by
  obtain ⟨es, -, -, k, -⟩ := popL_ok ops S m h
  exact k.1 j (by simp [h1, h2])
theorem bad0 {m : Mu} {S : List Int} (h : m.1 8 = 0) (h4 : m.1 4 = 5) (hP : PM m S) : ∃ m', (∀ n, TC (n + 1) 0 m = some m') ∧ MFB m m' 1 (m.1 5) := by
  obtain ⟨ops, S', rfl, h2, h3⟩ := ops_top S
  obtain ⟨es, p1, p2, p3, -⟩ := popL_ok ops S' m hP
  have hl := hP.2.2.2.2
  have hl0 := hP.2.2.2.1
  rw [List.length_append] at hl
  have e219 := m_pop219 (v := 0) ops S' m NN hP h2 h3 (NN_gt (by omega))
  have o := fun j h1 h2 => popL_o hP j h1 h2
  have step : ∀ n, m5_cond_l12 (n + 1) 0 m = if w32 ((popL m ops).1 49) = 0 then some (.inl (popL m ops)) else some (.inr (.inl (popL m ops))) := fun n => by
    rw [m5_cond_l12.eq_2]
    rw [h, if_pos (by decide), if_pos (by decide), m_isWq _ (by decide) (by rw [h4]; decide) (fun q => by omega), Option.bind_some, decide_eq_false (by omega), if_pos (by rfl), m_isWq _ (by decide) (by rw [h4]; decide) (fun q => by omega), Option.bind_some, decide_eq_false (by omega), if_pos (by rfl), e219, Option.bind_some]
    by_cases z : w32 ((popL m ops).1 49) = 0
    · rw [if_pos z, if_pos z]
    · have o4 : (popL m ops).1 4 = 5 := by rw [o 4 (by decide) (by decide)]; exact h4
      rw [if_neg z, if_neg z, m_isSq _ (by decide) (by rw [o4]; decide) (fun q => by omega), Option.bind_some, decide_eq_false (by omega), if_pos (by rfl)]
  by_cases z : w32 ((popL m ops).1 49) = 0
  · refine ⟨popL m ops, fun n => ?_, Or.inr ⟨rfl, by rw [o 8 (by decide) (by decide)]; exact h, by rw [o 4 (by decide) (by decide)]; exact h4, o 5 (by decide) (by decide), popL_fr hP⟩⟩
    unfold TC
    rw [step, if_pos z]; rfl
  · obtain ⟨m', e, hm⟩ := m_cannot (m := popL m ops) (by rw [o 8 (by decide) (by decide)]; exact h) (by rw [o 4 (by decide) (by decide), h4]; decide)
    rw [o 4 (by decide) (by decide), if_pos h4, o 5 (by decide) (by decide)] at hm
    refine ⟨m', fun n => ?_, Or.inl (MF_tr (popL_fr hP) hm)⟩
    unfold TC
    rw [step, if_neg z, Option.bind_some]
    show (m5_cannot (popL m ops)).bind _ = _
    rw [e]; rfl
