/-! MASSES: the class's loops -/
/-- since u only masses (128), sums (129) and next (130) have changed: they are f, g, k -/
def MQc (L : Ly) (u t : Sg) (f g k : Nat → Int) : Prop := (zT t = zT u ∧ zL t = zL u ∧ zI t = zI u ∧ zR t = zR u ∧ zB t = zB u ∧ zN t = zN u) ∧ (∀ a, L.2 a ≠ 128 → L.2 a ≠ 129 → L.2 a ≠ 130 → zA t a = zA u a) ∧ ∀ i, i < 1601 → zA t (L.1 128) i = f i ∧ zA t (L.1 129) i = g i ∧ zA t (L.1 130) i = k i
theorem MQc_ex {L : Ly} {u t : Sg} {f g k f' g' k' : Nat → Int} (h : MQc L u t f g k) (e : ∀ i, i < 1601 → f i = f' i ∧ g i = g' i ∧ k i = k' i) : MQc L u t f' g' k' :=
  ⟨h.1, h.2.1, fun i hi => by rw [← (e i hi).1, ← (e i hi).2.1, ← (e i hi).2.2]; exact h.2.2 i hi⟩
theorem MQc_128 {G : CG} {L : Ly} {u t : Sg} {f g k : Nat → Int} (hR : Rt G u L) (h : MQc L u t f g k) (j : Nat) (v : Int) : MQc L u (zsA t (L.1 128) j v) (va_up f j v) g k := by
  refine ⟨h.1, fun a h1 h2 h3 => ?_, fun i hi => ?_⟩
  · rw [zA_ne (fun q => h1 (by rw [q]; exact rC128 hR))]; exact h.2.1 a h1 h2 h3
  · rw [zA_ne (rne (rC129 hR) (rC128 hR) (by decide)), zA_ne (rne (rC130 hR) (rC128 hR) (by decide)), zsA_A, va_up_e]
    refine ⟨?_, (h.2.2 i hi).2⟩
    by_cases q : i = j
    · rw [if_pos ⟨rfl, q⟩, if_pos q]
    · rw [if_neg (fun z => q z.2), if_neg q]; exact (h.2.2 i hi).1
theorem MQc_129 {G : CG} {L : Ly} {u t : Sg} {f g k : Nat → Int} (hR : Rt G u L) (h : MQc L u t f g k) (j : Nat) (v : Int) : MQc L u (zsA t (L.1 129) j v) f (va_up g j v) k := by
  refine ⟨h.1, fun a h1 h2 h3 => ?_, fun i hi => ?_⟩
  · rw [zA_ne (fun q => h2 (by rw [q]; exact rC129 hR))]; exact h.2.1 a h1 h2 h3
  · rw [zA_ne (rne (rC128 hR) (rC129 hR) (by decide)), zA_ne (rne (rC130 hR) (rC129 hR) (by decide)), zsA_A, va_up_e]
    refine ⟨(h.2.2 i hi).1, ?_, (h.2.2 i hi).2.2⟩
    by_cases q : i = j
    · rw [if_pos ⟨rfl, q⟩, if_pos q]
    · rw [if_neg (fun z => q z.2), if_neg q]; exact (h.2.2 i hi).2.1
theorem MQc_130 {G : CG} {L : Ly} {u t : Sg} {f g k : Nat → Int} (hR : Rt G u L) (h : MQc L u t f g k) (j : Nat) (v : Int) : MQc L u (zsA t (L.1 130) j v) f g (va_up k j v) := by
  refine ⟨h.1, fun a h1 h2 h3 => ?_, fun i hi => ?_⟩
  · rw [zA_ne (fun q => h3 (by rw [q]; exact rC130 hR))]; exact h.2.1 a h1 h2 h3
  · rw [zA_ne (rne (rC128 hR) (rC130 hR) (by decide)), zA_ne (rne (rC129 hR) (rC130 hR) (by decide)), zsA_A, va_up_e]
    refine ⟨(h.2.2 i hi).1, (h.2.2 i hi).2.1, ?_⟩
    by_cases q : i = j
    · rw [if_pos ⟨rfl, q⟩, if_pos q]
    · rw [if_neg (fun z => q z.2), if_neg q]; exact (h.2.2 i hi).2.2
/-- the root in such a heap -/
theorem MQc_T {L : Ly} {u t : Sg} {f g k : Nat → Int} (h : MQc L u t f g k) {a x : Nat} (e : zT u a = x) : zT t a = x := by rw [h.1.1]; exact e
theorem MQc_L {L : Ly} {u t : Sg} {f g k : Nat → Int} (h : MQc L u t f g k) {a x : Nat} (e : zL u a = x) : zL t a = x := by rw [h.1.2.1]; exact e
theorem MQc_R {L : Ly} {u t : Sg} {f g k : Nat → Int} (h : MQc L u t f g k) {a j : Nat} {x : Option Nat} (e : zR u a j = x) : zR t a j = x := by rw [h.1.2.2.2.1]; exact e
theorem MQc_I {L : Ly} {u t : Sg} {f g k : Nat → Int} (h : MQc L u t f g k) {a j : Nat} {x : Int} (e : zI u a j = x) : zI t a j = x := by rw [h.1.2.2.1]; exact e
theorem c_fold0 {G : CG} {L : Ly} {u t : Sg} {f g k : Nat → Int} (hR : Rt G u L) (h : MQc L u t f g k) : ∃ t', f0_fold_l2 G (some (L.1 3)) NN 0 t = some t' ∧ MQc L u t' f g (fun _ => 0) := by
  have key := loop_ind (fun q (s : Nat × Sg) => f0_fold_l2 G (some (L.1 3)) q (s.1 : Int) s.2) (fun s => 1601 - s.1) (fun s => s.1 ≤ 1601 ∧ MQc L u s.2 f g (fun j => if j < s.1 then 0 else k j)) (fun _ r => MQc L u r f g (fun _ => 0)) (by
    rintro q ⟨i, t⟩ ⟨hi, ht⟩ ih
    dsimp only at hi ht ⊢
    show ok (f0_fold_l2 G (some (L.1 3)) (q + 1) (i : Int) t) _
    unfold f0_fold_l2
    rw [w32_n (by omega)]
    refine ok_ite (fun hz => ok_some (MQc_ex ht (fun j hj => ⟨rfl, rfl, by rw [if_pos (by omega)]⟩))) (fun hz => ?_)
    have l := MQc_L ht (rL130 hR)
    refine ok_eq (gfR_v (MQc_T ht (rT3 hR)) (MQc_R ht (rR3_30 hR))) (ok_eq (asI_e i (MQc_T ht (rT130 hR)) (rG130 hR) rfl (by omega) (by omega)) ?_)
    refine ih (i + 1, _) ⟨by show i + 1 ≤ 1601; omega, MQc_ex (MQc_130 hR ht i 0) (fun j hj => ⟨rfl, rfl, ?_⟩)⟩ (by show 1601 - (i + 1) < 1601 - i; omega)
    rw [va_up_e]
    show (if j = i then 0 else if j < i then 0 else k j) = if j < i + 1 then 0 else k j
    by_cases q1 : j = i
    · rw [if_pos q1, if_pos (by omega)]
    · rw [if_neg q1]
      by_cases q2 : j < i
      · rw [if_pos q2, if_pos (by omega)]
      · rw [if_neg q2, if_neg (by omega)]) NN (0, t) ⟨Nat.zero_le _, MQc_ex h (fun j _ => ⟨rfl, rfl, by dsimp only; rw [if_neg (by omega)]⟩)⟩ (NN_gt (by show 1601 - 0 < 100000; omega))
  obtain ⟨r, e, k⟩ := key
  exact ⟨r, e, k⟩
theorem c_fold1 {G : CG} {L : Ly} {u t : Sg} {f g k s : Nat → Int} (hR : Rt G u L) (hs : ∀ a, a < 401 → zA u (L.1 125) a = s a ∧ w32 (s a) = s a) (h : MQc L u t f g k) {x : Nat} (hx : x ≤ 1200) : ∃ t', f0_fold_l47 G (some (L.1 3)) x NN 0 t = some t' ∧ MQc L u t' f g (fun y => k y + Fx s g y x) := by
  have key := loop_ind (fun q (s : Nat × Sg) => f0_fold_l47 G (some (L.1 3)) x q (s.1 : Int) s.2) (fun s => 401 - s.1) (fun w => w.1 ≤ 401 ∧ MQc L u w.2 f g (fun y => k y + if x ≤ y ∧ y - x < w.1 then g x * s (y - x) else 0)) (fun _ r => MQc L u r f g (fun y => k y + Fx s g y x)) (by
    rintro q ⟨a, t⟩ ⟨hi, ht⟩ ih
    dsimp only at hi ht ⊢
    show ok (f0_fold_l47 G (some (L.1 3)) x (q + 1) (a : Int) t) _
    unfold f0_fold_l47
    rw [w32_n (by omega)]
    refine ok_ite (fun hz => ok_some (MQc_ex ht (fun j hj => ⟨rfl, rfl, ?_⟩))) (fun hz => ?_)
    · unfold Fx
      by_cases q1 : x ≤ j ∧ j - x < a
      · rw [if_pos q1, if_pos ⟨q1.1, by omega⟩]
      · rw [if_neg q1, if_neg (fun z => q1 ⟨z.1, by omega⟩)]
    have l1 := MQc_L ht (rL130 hR)
    have l2 := MQc_L ht (rL129 hR)
    have l3 := MQc_L ht (rL125 hR)
    have e125 : zA t (L.1 125) = zA u (L.1 125) := ht.2.1 _ (by rw [rC125 hR]; decide) (by rw [rC125 hR]; decide) (by rw [rC125 hR]; decide)
    refine ok_eq (gfR_v (MQc_T ht (rT3 hR)) (MQc_R ht (rR3_30 hR))) (ok_eq (alI_e (x + a) (MQc_T ht (rT130 hR)) (by omega) (by omega) (by omega)) (ok_eq (gfR_v (MQc_T ht (rT3 hR)) (MQc_R ht (rR3_29 hR))) (ok_eq (alI_e x (MQc_T ht (rT129 hR)) rfl (by omega) (by omega)) (ok_eq (gfR_v (MQc_T ht (rT3 hR)) (MQc_R ht (rR3_25 hR))) (ok_eq (alI_e a (MQc_T ht (rT125 hR)) rfl (by omega) (by omega)) (ok_eq (asI_e (x + a) (MQc_T ht (rT130 hR)) (rG130 hR) (by omega) (by omega) (by omega)) ?_))))))
    rw [e125, (hs a (by omega)).1, (hs a (by omega)).2, (ht.2.2 x (by omega)).2.1, (ht.2.2 (x + a) (by omega)).2.2]
    refine ih (a + 1, _) ⟨by show a + 1 ≤ 401; omega, MQc_ex (MQc_130 hR ht (x + a) _) (fun j hj => ⟨rfl, rfl, ?_⟩)⟩ (by show 401 - (a + 1) < 401 - a; omega)
    rw [va_up_e]
    dsimp only
    show _ = k j + if x ≤ j ∧ j - x < a + 1 then g x * s (j - x) else 0
    by_cases q1 : j = x + a
    · rw [if_pos q1, q1, if_neg (show ¬ (x ≤ x + a ∧ x + a - x < a) by omega), if_pos (show x ≤ x + a ∧ x + a - x < a + 1 by omega), show x + a - x = a by omega, Int.add_zero]
    · rw [if_neg q1]
      by_cases q2 : x ≤ j ∧ j - x < a
      · rw [if_pos q2, if_pos ⟨q2.1, by omega⟩]
      · rw [if_neg q2, if_neg (fun z => q2 ⟨z.1, by omega⟩)]) NN (0, t) ⟨Nat.zero_le _, MQc_ex h (fun j _ => ⟨rfl, rfl, by dsimp only; rw [if_neg (by omega), Int.add_zero]⟩)⟩ (NN_gt (by show 401 - 0 < 100000; omega))
  obtain ⟨r, e, k⟩ := key
  exact ⟨r, e, k⟩
theorem c_fold2 {G : CG} {L : Ly} {u t : Sg} {f g s : Nat → Int} (hR : Rt G u L) (hs : ∀ a, a < 401 → zA u (L.1 125) a = s a ∧ w32 (s a) = s a) (hg : ∀ x, x < 1601 → w64 (g x) = g x) (h : MQc L u t f g (fun _ => 0)) : ∃ t', f0_fold_l24 G (some (L.1 3)) NN 0 t = some t' ∧ MQc L u t' f g (fun y => sm (Fx s g y) 1201) := by
  have key := loop_ind (fun q (s : Nat × Sg) => f0_fold_l24 G (some (L.1 3)) q (s.1 : Int) s.2) (fun s => 1201 - s.1) (fun w => w.1 ≤ 1201 ∧ MQc L u w.2 f g (fun y => sm (Fx s g y) w.1)) (fun _ r => MQc L u r f g (fun y => sm (Fx s g y) 1201)) (by
    rintro q ⟨x, t⟩ ⟨hi, ht⟩ ih
    dsimp only at hi ht ⊢
    show ok (f0_fold_l24 G (some (L.1 3)) (q + 1) (x : Int) t) _
    unfold f0_fold_l24
    rw [w32_n (by omega)]
    refine ok_ite (fun hz => ok_some (by rw [show x = 1201 by omega] at ht; exact ht)) (fun hz => ?_)
    have l2 := MQc_L ht (rL129 hR)
    refine ok_eq (gfR_v (MQc_T ht (rT3 hR)) (MQc_R ht (rR3_29 hR))) (ok_eq (alI_e x (MQc_T ht (rT129 hR)) rfl (by omega) (by omega)) ?_)
    rw [(ht.2.2 x (by omega)).2.1, hg x (by omega)]
    refine ok_ite (fun q1 => ?_) (fun q1 => ?_)
    · refine ih (x + 1, t) ⟨by show x + 1 ≤ 1201; omega, MQc_ex ht (fun j hj => ⟨rfl, rfl, ?_⟩)⟩ (by show 1201 - (x + 1) < 1201 - x; omega)
      show _ = sm (Fx s g j) x + Fx s g j x
      have : Fx s g j x = 0 := by unfold Fx; rw [q1]; split <;> simp
      rw [this, Int.add_zero]
    · obtain ⟨t2, e2, h2⟩ := c_fold1 hR hs ht (x := x) (by omega)
      exact ok_eq e2 (ih (x + 1, t2) ⟨by show x + 1 ≤ 1201; omega, h2⟩ (by show 1201 - (x + 1) < 1201 - x; omega))) NN (0, t) ⟨Nat.zero_le _, h⟩ (NN_gt (by show 1201 - 0 < 100000; omega))
  obtain ⟨r, e, k⟩ := key
  exact ⟨r, e, k⟩
theorem c_fold3 {G : CG} {L : Ly} {u t : Sg} {f g k : Nat → Int} (hR : Rt G u L) (h : MQc L u t f g k) : ∃ t', f0_fold_l93 G (some (L.1 3)) NN 0 t = some t' ∧ MQc L u t' f k k := by
  have key := loop_ind (fun q (s : Nat × Sg) => f0_fold_l93 G (some (L.1 3)) q (s.1 : Int) s.2) (fun s => 1601 - s.1) (fun s => s.1 ≤ 1601 ∧ MQc L u s.2 f (fun j => if j < s.1 then k j else g j) k) (fun _ r => MQc L u r f k k) (by
    rintro q ⟨i, t⟩ ⟨hi, ht⟩ ih
    dsimp only at hi ht ⊢
    show ok (f0_fold_l93 G (some (L.1 3)) (q + 1) (i : Int) t) _
    unfold f0_fold_l93
    rw [w32_n (by omega)]
    refine ok_ite (fun hz => ok_some (MQc_ex ht (fun j hj => ⟨rfl, by rw [if_pos (by omega)], rfl⟩))) (fun hz => ?_)
    have l1 := MQc_L ht (rL130 hR)
    have l2 := MQc_L ht (rL129 hR)
    refine ok_eq (gfR_v (MQc_T ht (rT3 hR)) (MQc_R ht (rR3_29 hR))) (ok_eq (gfR_v (MQc_T ht (rT3 hR)) (MQc_R ht (rR3_30 hR))) (ok_eq (alI_e i (MQc_T ht (rT130 hR)) rfl (by omega) (by omega)) (ok_eq (asI_e i (MQc_T ht (rT129 hR)) (rG129 hR) rfl (by omega) (by omega)) ?_)))
    rw [(ht.2.2 i (by omega)).2.2]
    refine ih (i + 1, _) ⟨by show i + 1 ≤ 1601; omega, MQc_ex (MQc_129 hR ht i (k i)) (fun j hj => ⟨rfl, ?_, rfl⟩)⟩ (by show 1601 - (i + 1) < 1601 - i; omega)
    rw [va_up_e]
    show (if j = i then k i else if j < i then k j else g j) = if j < i + 1 then k j else g j
    by_cases q1 : j = i
    · rw [if_pos q1, if_pos (by omega), q1]
    · rw [if_neg q1]
      by_cases q2 : j < i
      · rw [if_pos q2, if_pos (by omega)]
      · rw [if_neg q2, if_neg (by omega)]) NN (0, t) ⟨Nat.zero_le _, MQc_ex h (fun j _ => ⟨rfl, by dsimp only; rw [if_neg (by omega)], rfl⟩)⟩ (NN_gt (by show 1601 - 0 < 100000; omega))
  obtain ⟨r, e, k⟩ := key
  exact ⟨r, e, k⟩
theorem c_fold {G : CG} {L : Ly} {u t : Sg} {f k s : Nat → Int} {n : Nat} (hn : n ≤ 3) (hR : Rt G u L) (hs : ∀ a, a < 401 → zA u (L.1 125) a = s a ∧ w32 (s a) = s a) (hg : ∀ x, w64 (cv s n x) = cv s n x) (h : MQc L u t f (cv s n) k) : ∃ t' k', f0_fold G (some (L.1 3)) t = some t' ∧ MQc L u t' f (cv s (n + 1)) k' := by
  obtain ⟨t1, e1, h1⟩ := c_fold0 hR h
  obtain ⟨t2, e2, h2⟩ := c_fold2 hR hs (fun x _ => hg x) h1
  obtain ⟨t3, e3, h3⟩ := c_fold3 hR h2
  refine ⟨t3, _, ?_, MQc_ex h3 (fun j _ => ⟨rfl, cv_c hn, rfl⟩)⟩
  unfold f0_fold
  rw [e1, Option.bind_some, e2, Option.bind_some, e3, Option.bind_some]
theorem c_pow {G : CG} {L : Ly} {u : Sg} {W : Int} (hT : zT u (L.1 3) = 1) (hW : zI u (L.1 3) 26 = W) (hw : w32 W = W) : f0_findMasses_l17 G (some (L.1 3)) u NN 1 0 = some (W ^ 4) := by
  have key := loop_ind (fun q (i : Nat) => f0_findMasses_l17 G (some (L.1 3)) u q (W ^ i) (i : Int)) (fun i => 4 - i) (fun i => i ≤ 4) (fun _ r => r = W ^ 4) (by
    intro q i hi ih
    show ok (f0_findMasses_l17 G (some (L.1 3)) u (q + 1) (W ^ i) (i : Int)) _
    unfold f0_findMasses_l17
    rw [w32_n (by omega)]
    refine ok_ite (fun hz => ok_some (by rw [show i = 4 by omega])) (fun hz => ok_eq (gfI_v hT hW) ?_)
    rw [hw, ← Int.pow_succ]
    exact ih (i + 1) (by omega) (by omega)) NN 0 (Nat.zero_le _) (NN_gt (by omega))
  obtain ⟨r, e, rfl⟩ := key
  rw [Int.pow_zero] at e
  exact e
theorem c_init {G : CG} {L : Ly} {u t : Sg} {f g k s : Nat → Int} (hR : Rt G u L) (h : MQc L u t f g k) {v1 : Int} : ∃ t', f0_findMasses_l38 G (some (L.1 3)) v1 NN 0 t = some t' ∧ MQc L u t' (fun _ => 0) (cv s 0) k := by
  have key := loop_ind (fun q (s : Nat × Sg) => f0_findMasses_l38 G (some (L.1 3)) v1 q (s.1 : Int) s.2) (fun s => 1601 - s.1) (fun w => w.1 ≤ 1601 ∧ MQc L u w.2 (fun j => if j < w.1 then 0 else f j) (fun j => if j < w.1 then cv s 0 j else g j) k) (fun _ r => MQc L u r (fun _ => 0) (cv s 0) k) (by
    rintro q ⟨i, t⟩ ⟨hi, ht⟩ ih
    dsimp only at hi ht ⊢
    show ok (f0_findMasses_l38 G (some (L.1 3)) v1 (q + 1) (i : Int) t) _
    unfold f0_findMasses_l38
    rw [w32_n (by omega)]
    refine ok_ite (fun hz => ok_some (MQc_ex ht (fun j hj => ⟨by rw [if_pos (by omega)], by rw [if_pos (by omega)], rfl⟩))) (fun hz => ?_)
    have l1 := MQc_L ht (rL128 hR)
    refine ok_eq (gfR_v (MQc_T ht (rT3 hR)) (MQc_R ht (rR3_28 hR))) (ok_eq (asI_e i (MQc_T ht (rT128 hR)) (rG128 hR) rfl (by omega) (by omega)) ?_)
    have ht2 := MQc_128 hR ht i 0
    have l2 := MQc_L ht2 (rL129 hR)
    refine ok_eq (gfR_v (MQc_T ht2 (rT3 hR)) (MQc_R ht2 (rR3_29 hR))) ?_
    have fin : ∀ v : Int, v = cv s 0 i → ok (f0_findMasses_l38 G (some (L.1 3)) v1 q ((i : Int) + 1) (zsA (zsA t (L.1 128) i 0) (L.1 129) i v)) (fun r => MQc L u r (fun _ => 0) (cv s 0) k) := by
      intro v hv
      refine ih (i + 1, _) ⟨by show i + 1 ≤ 1601; omega, MQc_ex (MQc_129 hR ht2 i v) (fun j hj => ⟨?_, ?_, rfl⟩)⟩ (by show 1601 - (i + 1) < 1601 - i; omega)
      · rw [va_up_e]
        show (if j = i then 0 else if j < i then 0 else f j) = if j < i + 1 then 0 else f j
        by_cases q1 : j = i
        · rw [if_pos q1, if_pos (by omega)]
        · rw [if_neg q1]
          by_cases q2 : j < i
          · rw [if_pos q2, if_pos (by omega)]
          · rw [if_neg q2, if_neg (by omega)]
      · rw [va_up_e]
        show (if j = i then v else if j < i then cv s 0 j else g j) = if j < i + 1 then cv s 0 j else g j
        by_cases q1 : j = i
        · rw [if_pos q1, if_pos (by omega), q1, hv]
        · rw [if_neg q1]
          by_cases q2 : j < i
          · rw [if_pos q2, if_pos (by omega)]
          · rw [if_neg q2, if_neg (by omega)]
    refine ok_ite (fun q1 => ok_eq (asI_e i (MQc_T ht2 (rT129 hR)) (rG129 hR) rfl (by omega) (by omega)) (fin 1 ?_)) (fun q1 => ok_eq (asI_e i (MQc_T ht2 (rT129 hR)) (rG129 hR) rfl (by omega) (by omega)) (fin 0 ?_))
    · exact (if_pos (by omega)).symm
    · exact (if_neg (by omega)).symm) NN (0, t) ⟨Nat.zero_le _, MQc_ex h (fun j _ => ⟨by dsimp only; rw [if_neg (by omega)], by dsimp only; rw [if_neg (by omega)], rfl⟩)⟩ (NN_gt (by show 1601 - 0 < 100000; omega))
  obtain ⟨r, e, k⟩ := key
  exact ⟨r, e, k⟩
theorem c_addm {G : CG} {L : Ly} {u t : Sg} {f g k c : Nat → Int} (hR : Rt G u L) (hc : ∀ n, n < 5 → zA u (L.1 127) n = c n ∧ w32 (c n) = c n) {n : Nat} (hn : n < 5) {v1 : Int} (h : MQc L u t f g k) : ∃ t', f0_findMasses_l91 G (some (L.1 3)) v1 n NN 0 t = some t' ∧ MQc L u t' (fun x => f x + c n * v1 * g x) g k := by
  have key := loop_ind (fun q (s : Nat × Sg) => f0_findMasses_l91 G (some (L.1 3)) v1 n q (s.1 : Int) s.2) (fun s => 1601 - s.1) (fun w => w.1 ≤ 1601 ∧ MQc L u w.2 (fun x => if x < w.1 then f x + c n * v1 * g x else f x) g k) (fun _ r => MQc L u r (fun x => f x + c n * v1 * g x) g k) (by
    rintro q ⟨i, t⟩ ⟨hi, ht⟩ ih
    dsimp only at hi ht ⊢
    show ok (f0_findMasses_l91 G (some (L.1 3)) v1 n (q + 1) (i : Int) t) _
    unfold f0_findMasses_l91
    rw [w32_n (by omega)]
    refine ok_ite (fun hz => ok_some (MQc_ex ht (fun j hj => ⟨by rw [if_pos (by omega)], rfl, rfl⟩))) (fun hz => ?_)
    have l1 := MQc_L ht (rL128 hR)
    have l2 := MQc_L ht (rL129 hR)
    have l3 := MQc_L ht (rL127 hR)
    have e127 : zA t (L.1 127) = zA u (L.1 127) := ht.2.1 _ (by rw [rC127 hR]; decide) (by rw [rC127 hR]; decide) (by rw [rC127 hR]; decide)
    refine ok_eq (gfR_v (MQc_T ht (rT3 hR)) (MQc_R ht (rR3_28 hR))) (ok_eq (alI_e i (MQc_T ht (rT128 hR)) rfl (by omega) (by omega)) (ok_eq (gfR_v (MQc_T ht (rT3 hR)) (MQc_R ht (rR3_27 hR))) (ok_eq (alI_e n (MQc_T ht (rT127 hR)) rfl (by omega) (by omega)) (ok_eq (gfR_v (MQc_T ht (rT3 hR)) (MQc_R ht (rR3_29 hR))) (ok_eq (alI_e i (MQc_T ht (rT129 hR)) rfl (by omega) (by omega)) (ok_eq (asI_e i (MQc_T ht (rT128 hR)) (rG128 hR) rfl (by omega) (by omega)) ?_))))))
    rw [e127, (hc n hn).1, (hc n hn).2, (ht.2.2 i (by omega)).1, (ht.2.2 i (by omega)).2.1]
    refine ih (i + 1, _) ⟨by show i + 1 ≤ 1601; omega, MQc_ex (MQc_128 hR ht i _) (fun j hj => ⟨?_, rfl, rfl⟩)⟩ (by show 1601 - (i + 1) < 1601 - i; omega)
    rw [va_up_e]
    dsimp only
    show _ = if j < i + 1 then f j + c n * v1 * g j else f j
    by_cases q1 : j = i
    · rw [if_pos q1, if_neg (show ¬ i < i by omega), if_pos (show j < i + 1 by omega), q1]
    · rw [if_neg q1]
      by_cases q2 : j < i
      · rw [if_pos q2, if_pos (by omega)]
      · rw [if_neg q2, if_neg (by omega)]) NN (0, t) ⟨Nat.zero_le _, MQc_ex h (fun j _ => ⟨by dsimp only; rw [if_neg (by omega)], rfl, rfl⟩)⟩ (NN_gt (by show 1601 - 0 < 100000; omega))
  obtain ⟨r, e, k⟩ := key
  exact ⟨r, e, k⟩
theorem div_pow {W : Int} (hW : 0 < W ∧ W ≤ 200) {k : Nat} (hk : k ≤ 3) : div64 (W ^ (k + 1)) W = W ^ k := by
  have h1 := pow_le (W := W) (by omega) (k + 1)
  have h2 : (200 : Int) ^ (k + 1) ≤ 1600000000 := by
    rcases (show k = 0 ∨ k = 1 ∨ k = 2 ∨ k = 3 by omega) with rfl | rfl | rfl | rfl <;> decide
  unfold div64
  rw [w64_id (x := W ^ (k + 1)) (by omega) (by omega), w64_id (x := W) (by omega) (by omega), Int.tdiv_eq_ediv_of_nonneg h1.1, Int.pow_succ]
  exact Int.mul_ediv_cancel _ (by omega)
theorem c_find {G : CG} {L : Ly} {u t : Sg} {k s c : Nat → Int} {W : Int} (hR : Rt G u L) (hW : zI u (L.1 3) 26 = W) (hWb : 0 ≤ W ∧ W ≤ 200) (hsb : ∀ a, a < 401 → 0 ≤ s a) (hsW : sm s 401 = W) (hs : ∀ a, a < 401 → zA u (L.1 125) a = s a ∧ w32 (s a) = s a) (hc : ∀ n, n < 5 → zA u (L.1 127) n = c n ∧ w32 (c n) = c n) (h : MQc L u t (fun _ => 0) (cv s 0) k) : ∃ t' g' k', f0_findMasses_l75 G (some (L.1 3)) NN (W ^ 4) 0 t = some t' ∧ MQc L u t' (mB s c W 5) g' k' := by
  have cvw : ∀ n, n ≤ 4 → ∀ x, w64 (cv s n x) = cv s n x := fun n hn x => by
    have := cv_bd hsb (by omega) n x
    have h2 : (200 : Int) ^ n ≤ 1600000000 := by
      rcases (show n = 0 ∨ n = 1 ∨ n = 2 ∨ n = 3 ∨ n = 4 by omega) with rfl | rfl | rfl | rfl | rfl <;> decide
    exact w64_id (by omega) (by omega)
  have key := loop_ind (fun q (s : Nat × Sg) => f0_findMasses_l75 G (some (L.1 3)) q (W ^ (4 - s.1)) (s.1 : Int) s.2) (fun s => 5 - s.1) (fun w => w.1 ≤ 5 ∧ ∃ g' k', MQc L u w.2 (mB s c W w.1) g' k' ∧ (w.1 ≤ 4 → g' = cv s (w.1 - 1))) (fun _ r => ∃ g' k', MQc L u r (mB s c W 5) g' k') (by
    rintro q ⟨n, t⟩ ⟨hn, g', k', ht, hg⟩ ih
    dsimp only at hn ht hg ⊢
    show ok (f0_findMasses_l75 G (some (L.1 3)) (q + 1) (W ^ (4 - n)) (n : Int) t) _
    unfold f0_findMasses_l75
    rw [w32_n (by omega)]
    refine ok_ite (fun hz => ok_some ⟨g', k', by rw [show n = 5 by omega] at ht; exact ht⟩) (fun hz => ?_)
    have fin : ∀ t2 k2, MQc L u t2 (mB s c W n) (cv s n) k2 → ok (f0_findMasses_b88 G (f0_findMasses_l75 G (some (L.1 3)) q) (some (L.1 3)) (W ^ (4 - n)) (n : Int) t2) (fun r => ∃ g' k', MQc L u r (mB s c W 5) g' k') := by
      intro t2 k2 h2
      unfold f0_findMasses_b88
      obtain ⟨t3, e3, h3⟩ := c_addm hR hc (n := n) (by omega) (v1 := W ^ (4 - n)) h2
      refine ok_eq e3 ?_
      have hrec := ih (n + 1, t3) ⟨by show n + 1 ≤ 5; omega, cv s n, k2, h3, fun _ => rfl⟩ (by show 5 - (n + 1) < 5 - n; omega)
      dsimp only at hrec
      rw [w32_n (by omega)]
      refine ok_ite (fun q1 => ?_) (fun q1 => ok_eq (gfI_v (MQc_T h3 (rT3 hR)) (MQc_I h3 hW)) ?_)
      · rw [show 4 - (n + 1) = 0 by omega, Int.pow_zero] at hrec
        exact hrec
      · rw [w32_id (x := W) (by omega) (by omega)]
        refine ok_ite (fun q2 => ?_) (fun q2 => ok_eq (gfI_v (MQc_T h3 (rT3 hR)) (MQc_I h3 hW)) ?_)
        · by_cases q3 : n = 4
          · subst q3
            have e0 : ∀ v, f0_findMasses_l75 G (some (L.1 3)) q v ((4 : Nat) + 1 : Int) t3 = f0_findMasses_l75 G (some (L.1 3)) q (W ^ (4 - (4 + 1))) ((4 + 1 : Nat) : Int) t3 := by
              intro v
              cases q with
              | zero => rfl
              | succ q =>
                unfold f0_findMasses_l75
                rw [if_pos (by decide), if_pos (by decide)]
            rw [e0]
            exact hrec
          · have e0 : W ^ (4 - (n + 1)) = 0 := by rw [q2]; exact Int.zero_pow (by omega)
            rw [e0] at hrec
            exact hrec
        · rw [w32_id (x := W) (by omega) (by omega), w64_id (x := W) (by omega) (by omega), if_neg q2]
          by_cases q3 : n = 4
          · subst q3
            have e0 : ∀ v, f0_findMasses_l75 G (some (L.1 3)) q v ((4 : Nat) + 1 : Int) t3 = f0_findMasses_l75 G (some (L.1 3)) q (W ^ (4 - (4 + 1))) ((4 + 1 : Nat) : Int) t3 := by
              intro v
              cases q with
              | zero => rfl
              | succ q =>
                unfold f0_findMasses_l75
                rw [if_pos (by decide), if_pos (by decide)]
            rw [e0]
            exact hrec
          · rw [show 4 - n = 4 - (n + 1) + 1 by omega, div_pow (by omega) (by omega)]
            exact hrec
    refine ok_ite (fun q1 => ?_) (fun q1 => ?_)
    · have : n = 0 := by omega
      subst this
      refine fin t k' ?_
      rw [hg (by omega)] at ht
      exact ht
    · rw [hg (by omega)] at ht
      obtain ⟨t2, k2, e2, h2⟩ := c_fold (n := n - 1) (by omega) hR hs (cvw (n - 1) (by omega)) ht
      rw [show n - 1 + 1 = n by omega] at h2
      exact ok_eq (ztg_e (MQc_T ht (rT3 hR))) (ok_eq e2 (fin t2 k2 h2))) NN (0, t) ⟨by dsimp only; omega, cv s 0, k, h, fun _ => rfl⟩ (NN_gt (by show 5 - 0 < 100000; omega))
  obtain ⟨r, e, g', k', hh⟩ := key
  exact ⟨r, g', k', e, hh⟩
