/-! STARTS: the class's part -/
theorem stX_mono {kind lo hi : Int} {P Q : Int → Prop} {x : Int} (h : stX kind lo hi P x) (hPQ : P x → Q x) : stX kind lo hi Q x := h.imp id (fun z => ⟨z.1, z.2.1, hPQ z.2.2⟩)
theorem stX_full {kind lo hi : Int} {P Q : Int → Prop} (hk : kind ≠ 2) (x : Int) : stX kind lo hi P x ↔ stX kind lo hi Q x := by
  unfold stX bsX
  rw [if_neg hk]
  constructor
  · rintro (z | z)
    · exact Or.inl z
    · exact Or.inl ⟨by omega, z.2.1⟩
  · rintro (z | z)
    · exact Or.inl z
    · exact Or.inl ⟨by omega, z.2.1⟩
theorem thN_op {f : Int} {q : Nd} {x : Int} (h : q.1 ≠ 0) : ¬ thN f q x := fun z => h z.1
theorem thN_bd {f : Int} {q : Nd} {x : Int} {nf nm : Int} (h : thN f q x) (hb : okN nf nm q) : 0 ≤ x ∧ x ≤ 1000000000 := by
  obtain ⟨h1, h2, h3⟩ := h
  obtain ⟨-, -, -, -, h5, h6⟩ := hb.2.2.1 h1
  rcases h3 with z | z <;> omega
theorem GS_ne {G : CG} {u : Sg} (hSt : St G u) {i j : Nat} (hi : i < 6) (hj : j < 6) : GS G i = GS G j ↔ i = j := by
  constructor
  · intro h
    obtain ⟨s, a1, a2, a3⟩ := hSt.1 i hi
    obtain ⟨t, b1, b2, b3⟩ := hSt.1 j hj
    rw [a1, b1] at h
    cases h
    omega
  · intro h; rw [h]
/-- a Measure at c -/
theorem c_meas {G : CG} {L : Ly} {u : Sg} (hR : Rt G u L) {f : Nat} (hf : f < 8) {lo hi : Int} {l : List Int} {X : Int → Prop} (h : SQ L u f lo hi l X) (hl : l.length < 1220) (hb : 0 ≤ lo ∧ hi ≤ 999999999) {c k : Nat} (hk : k < 6) (h1 : zT u c = 15) (h2 : zR u c 561 = GS G k) (hc : L.2 c ≠ 160 + f) {fa : Nat} (hfa : zI u c 560 = (fa : Int)) (hfb : fa < 8) (hval : 0 ≤ zI u c 562 ∧ zI u c 562 ≤ 999999999) (hvl : ∀ x, thN f (0, zI u c 560, (k : Int), zI u c 562) x → x ∈ l) : ∃ u', f14_part G (some c) f (some (L.1 (160 + f))) u = some u' ∧ scs L f u u' ∧ SQ L u' f lo hi l (fun x => X x ∨ (lo < x ∧ x ≤ hi ∧ thN f (0, zI u c 560, (k : Int), zI u c 562) x)) := by
  have hSt := hR.2.2.2.2.2.1
  obtain ⟨⟨t1, t2, t3⟩, -⟩ := rSt hR hf
  show ok (f14_part G (some c) f (some (L.1 (160 + f))) u) (fun u' => scs L f u u' ∧ SQ L u' f lo hi l (fun x => X x ∨ (lo < x ∧ x ≤ hi ∧ thN f (0, zI u c 560, (k : Int), zI u c 562) x)))
  unfold f14_part
  refine ok_eq (gfI_v h1 hfa) ?_
  rw [w32_n (by omega), w32_n (by omega)]
  refine ok_ite (fun q1 => ?_) (fun q1 => ok_some ⟨scs_rf, SQ_cg h (fun x => ⟨Or.inl, fun z => z.elim id (fun z => by have := z.2.2.2.1; dsimp only at this; omega)⟩)⟩)
  -- the second half
  have b37 : ∀ (t : Sg) (Y : Int → Prop), scs L f u t → Rt G t L → SQ L t f lo hi l Y → (∀ x, Y x ↔ (X x ∨ (lo < x ∧ x ≤ hi ∧ x = zI u c 562 ∧ k ≠ 2 ∧ k ≠ 3))) → ok (f14_part_b37 G (some c) (some (L.1 (160 + f))) t) (fun u' => scs L f u u' ∧ SQ L u' f lo hi l (fun x => X x ∨ (lo < x ∧ x ≤ hi ∧ thN f (0, zI u c 560, (k : Int), zI u c 562) x))) := by
    intro t Y hs hRt hq hY
    have y1 : zT t c = 15 := by rw [hs.1.1]; exact h1
    have y2 : zR t c 561 = GS G k := by rw [hs.1.2.2.1]; exact h2
    have y3 : zI t c 562 = zI u c 562 := by rw [hs.2.1 c hc]
    unfold f14_part_b37
    have skip : (k = 1 ∨ k = 4) → ok (some t) (fun u' => scs L f u u' ∧ SQ L u' f lo hi l (fun x => X x ∨ (lo < x ∧ x ≤ hi ∧ thN f (0, zI u c 560, (k : Int), zI u c 562) x))) := fun hk4 => ok_some ⟨hs, SQ_cg hq (fun x => by
      rw [hY x]
      refine or_congr Iff.rfl ⟨fun z => ⟨z.1, z.2.1, rfl, by dsimp only; omega, Or.inl ⟨z.2.2.1, by dsimp only; omega, by dsimp only; omega⟩⟩, fun z => ⟨z.1, z.2.1, ?_⟩⟩
      rcases z.2.2.2.2 with y | y
      · exact ⟨y.1, by have := y.2; dsimp only at this; omega, by have := y.2; dsimp only at this; omega⟩
      · have := y.2; dsimp only at this; omega)⟩
    refine ok_eq (gfR_v y1 y2) (ok_ite (fun z => skip (Or.inl ((GS_ne hSt hk (by omega)).mp z))) (fun z => ok_eq (gfR_v y1 y2) (ok_ite (fun z2 => skip (Or.inr ((GS_ne hSt hk (by omega)).mp z2))) (fun z2 => ?_))))
    have k1 : k ≠ 1 := fun y => z (by rw [y])
    have k4 : k ≠ 4 := fun y => z2 (by rw [y])
    refine ok_eq (gfI_v y1 y3) (ok_eq (ztg_e (by rw [hs.1.1]; exact t1)) ?_)
    obtain ⟨t', e, s', q'⟩ := c_add hRt hf (v := zI u c 562 + 1) hq hl hb ⟨by omega, by omega⟩ (fun _ _ => hvl _ ⟨rfl, by dsimp only; omega, Or.inr ⟨rfl, by dsimp only; omega, by dsimp only; omega⟩⟩)
    refine ok_eq e (ok_some ⟨scs_tr hs s', SQ_cg q' (fun x => ?_)⟩)
    rw [hY x, or_assoc]
    refine or_congr Iff.rfl ⟨?_, fun z => ?_⟩
    · rintro (y | y)
      · exact ⟨y.1, y.2.1, rfl, by dsimp only; omega, Or.inl ⟨y.2.2.1, by dsimp only; omega, by dsimp only; omega⟩⟩
      · exact ⟨by omega, by omega, rfl, by dsimp only; omega, Or.inr ⟨y.1, by dsimp only; omega, by dsimp only; omega⟩⟩
    · rcases z.2.2.2.2 with y | y
      · exact Or.inl ⟨z.1, z.2.1, y.1, by have := y.2; dsimp only at this; omega, by have := y.2; dsimp only at this; omega⟩
      · have y0 := y.1
        dsimp only at y0
        exact Or.inr ⟨y0, by omega, by omega⟩
  have none1 : (k = 2 ∨ k = 3) → ok (f14_part_b37 G (some c) (some (L.1 (160 + f))) u) (fun u' => scs L f u u' ∧ SQ L u' f lo hi l (fun x => X x ∨ (lo < x ∧ x ≤ hi ∧ thN f (0, zI u c 560, (k : Int), zI u c 562) x))) := fun hk2 => b37 u X scs_rf hR h (fun x => ⟨Or.inl, fun z => z.elim id (fun z => by omega)⟩)
  refine ok_eq (gfR_v h1 h2) (ok_ite (fun z => none1 (Or.inl ((GS_ne hSt hk (by omega)).mp z))) (fun z => ok_eq (gfR_v h1 h2) (ok_ite (fun z2 => none1 (Or.inr ((GS_ne hSt hk (by omega)).mp z2))) (fun z2 => ?_))))
  have k2 : k ≠ 2 := fun y => z (by rw [y])
  have k3 : k ≠ 3 := fun y => z2 (by rw [y])
  refine ok_eq (gfI_e h1) (ok_eq (ztg_e t1) ?_)
  obtain ⟨t', e, s', q'⟩ := c_add hR hf (v := zI u c 562) h hl hb ⟨by omega, by omega⟩ (fun _ _ => hvl _ ⟨rfl, by dsimp only; omega, Or.inl ⟨rfl, by dsimp only; omega, by dsimp only; omega⟩⟩)
  refine ok_eq e (b37 t' _ s' ?_ q' (fun x => or_congr Iff.rfl ⟨fun y => ⟨by omega, by omega, y.1, k2, k3⟩, fun y => ⟨y.2.2.1, by omega, by omega⟩⟩))
  have fz := frz_scr (scs_scr hf s')
  refine ⟨fun q hq => by rw [s'.1.1, s'.1.2.1]; exact hR.1 q hq, fun q hq => by rw [s'.1.2.2.1]; exact hR.2.1 q hq, by rw [s'.1.2.2.2.2]; exact hR.2.2.1, hR.2.2.2.1, by rw [s'.1.2.2.2.2]; exact hR.2.2.2.2.1, St_k hR.2.2.2.1 fz hSt, LF_k fz hR.2.2.2.2.2.2⟩
theorem Rt_scs {G : CG} {L : Ly} {f : Nat} (hf : f < 8) {u t : Sg} (hR : Rt G u L) (s' : scs L f u t) : Rt G t L := by
  have fz := frz_scr (scs_scr hf s')
  exact ⟨fun q hq => by rw [s'.1.1, s'.1.2.1]; exact hR.1 q hq, fun q hq => by rw [s'.1.2.2.1]; exact hR.2.1 q hq, by rw [s'.1.2.2.2.2]; exact hR.2.2.1, hR.2.2.2.1, by rw [s'.1.2.2.2.2]; exact hR.2.2.2.2.1, St_k hR.2.2.2.1 fz hR.2.2.2.2.2.1, LF_k fz hR.2.2.2.2.2.2⟩
/-- what a tree is free of: the Starts themselves, and questions for a value of a fact of numbers -/
def FP (L : Ly) (u : Sg) (f : Nat) (kind : Int) (F : Nat → Prop) : Prop := ∀ q, F q → L.2 q ≠ 160 + f ∧ L.2 q ≠ 170 + f ∧ (zT u q = 14 → kind = 2 → zI u q 520 ≠ (f : Int))
theorem mrow_mem_iff {rows : Nat → List Nd} {qs : Nat → Nd} {x : Nd} : ∀ k, x ∈ mrow rows qs k ↔ (∃ i, i ≤ k ∧ x ∈ rows i) ∨ ∃ i, 1 ≤ i ∧ i ≤ k ∧ x = qs i := by
  intro k
  induction k with
  | zero =>
    simp only [mrow]
    constructor
    · intro h; exact Or.inl ⟨0, Nat.le_refl _, h⟩
    · rintro (⟨i, hi, h⟩ | ⟨i, h1, h2, _⟩)
      · rw [Nat.le_zero.mp hi] at h; exact h
      · omega
  | succ k ih =>
    simp only [mrow, List.mem_append, List.mem_singleton]
    rw [ih]
    constructor
    · rintro (((⟨i, hi, h⟩ | ⟨i, h1, h2, h⟩) | h) | h)
      · exact Or.inl ⟨i, by omega, h⟩
      · exact Or.inr ⟨i, h1, by omega, h⟩
      · exact Or.inl ⟨k + 1, Nat.le_refl _, h⟩
      · exact Or.inr ⟨k + 1, by omega, Nat.le_refl _, h⟩
    · rintro (⟨i, hi, h⟩ | ⟨i, h1, h2, h⟩)
      · by_cases q : i = k + 1
        · rw [q] at h; exact Or.inl (Or.inr h)
        · exact Or.inl (Or.inl (Or.inl ⟨i, by omega, h⟩))
      · by_cases q : i = k + 1
        · rw [q] at h; exact Or.inr h
        · exact Or.inl (Or.inl (Or.inr ⟨i, h1, by omega, h⟩))
theorem c_part {F : Nat → Prop} {G : CG} {L : Ly} {u : Sg} (hR : Rt G u L) {f : Nat} (hf : f < 8) {kind lo hi nm : Int} {l : List Int} (hl : l.length < 1220) (hb : 0 ≤ lo ∧ hi ≤ 999999999) (hF : FP L u f kind F) : ∀ d c ns, CA F G u d c ns → (∀ q ∈ ns, okN 8 nm q) → (∀ q ∈ ns, ∀ x, thN f q x → x ∈ l) → ∀ e, d ≤ e → ∀ (t : Sg) (P : Int → Prop), scs L f u t → SQ L t f lo hi l (stX kind lo hi P) → ∃ t', kv_part G e (some c) f (some (L.1 (160 + f))) t = some t' ∧ scs L f u t' ∧ SQ L t' f lo hi l (stX kind lo hi (fun x => P x ∨ ∃ q ∈ ns, thN f q x)) := by
  intro d
  induction d with
  | zero => intro c ns h; exact absurd h (by simp [CA])
  | succ d ih =>
    intro c ns h hok hvl e he t P hs hq
    obtain ⟨e, rfl⟩ : ∃ k, e = k + 1 := ⟨e - 1, by omega⟩
    have hRt := Rt_scs hf hR hs
    have same : (∀ q ∈ ns, ∀ x, kind = 2 → ¬ thN f q x) → SQ L t f lo hi l (stX kind lo hi (fun x => P x ∨ ∃ q ∈ ns, thN f q x)) := fun hno => SQ_cg hq (fun x => by
      by_cases hk : kind = 2
      · exact ⟨fun z => stX_mono z Or.inl, fun z => stX_mono z (fun y => y.elim id (fun ⟨q, q1, q2⟩ => absurd q2 (hno q q1 x hk)))⟩
      · exact stX_full hk x)
    obtain ⟨hc, h⟩ := h
    obtain ⟨f1, f2, f3⟩ := hF c hc
    have cT : zT t c = zT u c := by rw [hs.1.1]
    have cI : zI t c = zI u c := hs.2.1 c f1
    have cR : zR t c = zR u c := by rw [hs.1.2.2.1]
    rcases h with ⟨h1, o, ns', q, h2, h3, h4, h5⟩ | ⟨h1, q, h2, h3, h4⟩ | ⟨h1, h2, h3⟩ | ⟨h1, k, h2, h3, h4⟩ | ⟨h1, h2, ll, b, n, el, rows, qs, h3, h4, h5, h6, h7, h8, h9, h10, h11⟩
    · subst h5
      obtain ⟨t', e', s', q'⟩ := ih o ns' h3 (fun q hq => hok q (List.mem_append_left _ hq)) (fun q hq => hvl q (List.mem_append_left _ hq)) e (by omega) t P hs hq
      refine ⟨t', ?_, s', SQ_cg q' (fun x => ⟨fun z => stX_mono z (fun y => y.imp id (fun ⟨w, w1, w2⟩ => ⟨w, List.mem_append_left _ w1, w2⟩)), fun z => stX_mono z (fun y => y.imp id (fun ⟨w, w1, w2⟩ => ?_))⟩)⟩
      · unfold kv_part f11_part
        rw [Option.bind_some, if_pos (by rw [cT]; exact h1), gfR_v (r := some o) (by rw [cT]; exact h1) (by rw [cR]; exact h2), Option.bind_some, e', Option.bind_some]
      · rcases List.mem_append.mp w1 with w1 | w1
        · exact ⟨w, w1, w2⟩
        · rw [List.mem_singleton.mp w1] at w2
          exact absurd w2 (thN_op (by omega))
    · subst h4
      refine ⟨t, ?_, hs, same (fun q' hq' x _ => thN_op (by rw [List.mem_singleton.mp hq']; omega))⟩
      unfold kv_part f10_part
      rw [Option.bind_some, if_neg (by rw [cT]; omega), if_pos (by rw [cT]; exact h1)]
    · subst h3
      refine ⟨t, ?_, hs, same (fun q' hq' x hk z => ?_)⟩
      · unfold kv_part f10_part
        rw [Option.bind_some, if_neg (by rw [cT]; omega), if_neg (by rw [cT]; omega), if_pos (by rw [cT]; exact h1)]
      · rw [List.mem_singleton.mp hq'] at z
        exact f3 h1 hk z.2.1
    · subst h4
      obtain ⟨b1, b2, b3, b4, b5, b6⟩ := (hok _ List.mem_cons_self).2.2.1 rfl
      dsimp only at b1 b2 b3 b4 b5 b6
      obtain ⟨t', e', s', q'⟩ := c_meas hRt hf hq hl hb (c := c) (k := k) h2 (by rw [cT]; exact h1) (by rw [cR]; exact h3) f1 (fa := (zI u c 560).toNat) (by rw [cI]; omega) (by omega) (by rw [cI]; exact ⟨b5, b6⟩) (by rw [cI]; exact hvl _ List.mem_cons_self)
      rw [cI] at q'
      refine ⟨t', ?_, scs_tr hs s', SQ_cg q' (fun x => ?_)⟩
      · unfold kv_part
        rw [Option.bind_some, if_neg (by rw [cT]; omega), if_neg (by rw [cT]; omega), if_neg (by rw [cT]; omega), if_pos (by rw [cT]; exact h1)]
        exact e'
      · unfold stX
        constructor
        · rintro ((z | z) | z)
          · exact Or.inl z
          · exact Or.inr ⟨z.1, z.2.1, Or.inl z.2.2⟩
          · exact Or.inr ⟨z.1, z.2.1, Or.inr ⟨_, List.mem_cons_self, z.2.2⟩⟩
        · rintro (z | ⟨z1, z2, z3 | ⟨w, w1, w2⟩⟩)
          · exact Or.inl (Or.inl z)
          · exact Or.inl (Or.inr ⟨z1, z2, z3⟩)
          · rw [List.mem_singleton.mp w1] at w2
            exact Or.inr ⟨z1, z2, w2⟩
    · subst h11
      have sl : sam u t ll := scs_sam hs (hF ll h5).1 (hF ll h5).2.1
      have hct : ∀ i, i < n → zT u (el i) ∈ [12, 13, 14, 15, 16] := by
        intro i hi
        have := (h9 i hi).2
        cases d with
        | zero => exact absurd this (by simp [CA])
        | succ d =>
          obtain ⟨-, q | q | q | q | q⟩ := this <;> rw [q.1] <;> decide
      have key := loop_ind (fun k (w : Nat × Sg) => f15_part_l2 G (kv_part G e) (some c) f (some (L.1 (160 + f))) k (w.1 : Int) w.2) (fun w => n - w.1) (fun w => w.1 ≤ n ∧ scs L f u w.2 ∧ SQ L w.2 f lo hi l (stX kind lo hi (fun x => P x ∨ ∃ i, i < w.1 ∧ ∃ q ∈ rows i, thN f q x))) (fun _ r => scs L f u r ∧ SQ L r f lo hi l (stX kind lo hi (fun x => P x ∨ ∃ i, i < n ∧ ∃ q ∈ rows i, thN f q x))) (by
        rintro k ⟨i, w⟩ ⟨hi, hw, hqw⟩ hrec
        dsimp only at hi hw hqw ⊢
        show ok (f15_part_l2 G (kv_part G e) (some c) f (some (L.1 (160 + f))) (k + 1) (i : Int) w) _
        unfold f15_part_l2
        have wT : zT w c = 16 := by rw [hw.1.1]; exact h1
        have wR : zR w c 601 = some ll := by rw [hw.1.2.2.1]; exact h3
        have wl : LA w ll b n := LA_sam h4 (scs_sam hw (hF ll h5).1 (hF ll h5).2.1) (scs_sam hw (hF b h6).1 (hF b h6).2.1) (by rw [hw.1.2.2.2.2]; exact Nat.le_refl _) (fun x _ => by rw [hw.1.1])
        refine ok_eq (gfR_v wT wR) (ok_eq (ztg_e wl.1) (ok_eq (J_size wl) ?_))
        rw [w32_n (by omega), w32_n (by omega)]
        refine ok_ite (fun hc => ok_some ⟨hw, by rw [show i = n by omega] at hqw; exact hqw⟩) (fun hc => ?_)
        refine ok_eq (gfR_v wT wR) (ok_eq (ztg_e wl.1) (ok_eq (J_get wl i rfl (by omega)) ?_))
        rw [hw.1.2.2.2.1, (h9 i (by omega)).1]
        obtain ⟨w', e', s', q'⟩ := ih (el i) (rows i) (h9 i (by omega)).2 (fun q hq => hok q (mrow_mem _ i (by omega) hq)) (fun q hq => hvl q (mrow_mem _ i (by omega) hq)) e (by omega) w _ hw hqw
        refine ok_eq (zcast_e (by rw [hw.1.1]; exact hct i (by omega))) (ok_eq e' ?_)
        refine hrec (i + 1, w') ⟨by show i + 1 ≤ n; omega, s', SQ_cg q' (fun x => ⟨fun z => stX_mono z ?_, fun z => stX_mono z ?_⟩)⟩ (by show n - (i + 1) < n - i; omega)
        · rintro ((y | ⟨j, j1, y⟩) | y)
          · exact Or.inl y
          · exact Or.inr ⟨j, by dsimp only; omega, y⟩
          · exact Or.inr ⟨i, by dsimp only; omega, y⟩
        · rintro (y | ⟨j, j1, y⟩)
          · exact Or.inl (Or.inl y)
          · by_cases hj : j = i
            · rw [hj] at y; exact Or.inr y
            · exact Or.inl (Or.inr ⟨j, by dsimp only at j1; omega, y⟩)) NN (0, t) ⟨Nat.zero_le _, hs, SQ_cg hq (fun x => ⟨fun z => stX_mono z Or.inl, fun z => stX_mono z (fun y => y.elim id (fun ⟨i, hi, _⟩ => by dsimp only at hi; omega))⟩)⟩ (NN_gt (by show n - 0 < 100000; omega))
      obtain ⟨r, er, s', q'⟩ := key
      have er : f15_part_l2 G (kv_part G e) (some c) f (some (L.1 (160 + f))) NN 0 t = some r := er
      refine ⟨r, ?_, s', SQ_cg q' (fun x => ⟨fun z => stX_mono z (fun y => y.imp id ?_), fun z => stX_mono z (fun y => y.imp id ?_)⟩)⟩
      · unfold kv_part f15_part
        rw [Option.bind_some, if_neg (by rw [cT]; omega), if_neg (by rw [cT]; omega), if_neg (by rw [cT]; omega), if_neg (by rw [cT]; omega), if_pos (by rw [cT]; exact h1), er, Option.bind_some]
      · rintro ⟨i, hi, q, q1, q2⟩
        exact ⟨q, mrow_mem _ i (by omega) q1, q2⟩
      · rintro ⟨q, q1, q2⟩
        rcases (mrow_mem_iff (n - 1)).mp q1 with ⟨i, hi, z⟩ | ⟨i, i1, i2, z⟩
        · exact ⟨i, by omega, q, z, q2⟩
        · refine absurd q2 (thN_op ?_)
          rw [z, h10 i i1]
          split <;> omega
