/-! CONDITIONS IN THE HEAP -/
/-- the rows of a list of parts, joined by nodes behind each -/
def mrow (rows : Nat → List Nd) (qs : Nat → Nd) : Nat → List Nd
  | 0 => rows 0
  | k + 1 => mrow rows qs k ++ rows (k + 1) ++ [qs (k + 1)]
/-- the object at c is the condition ns; all its cells are in F -/
def CA (F : Nat → Prop) (G : CG) (u : Sg) : Nat → Nat → List Nd → Prop
  | 0, _, _ => False
  | d + 1, c, ns => F c ∧ (
      (zT u c = 12 ∧ ∃ o ns' q, zR u c 440 = some o ∧ CA F G u d o ns' ∧ q.1 = 2 ∧ ns = ns' ++ [q]) ∨
      (zT u c = 13 ∧ ∃ q, q.1 = 1 ∧ q.2.1 = zI u c 480 ∧ ns = [q]) ∨
      (zT u c = 14 ∧ (zI u c 522 = 0 ∨ zI u c 522 = 1) ∧ ns = [(0, zI u c 520, if zI u c 522 = 0 then 0 else 5, zI u c 521)]) ∨
      (zT u c = 15 ∧ ∃ k, k < 6 ∧ zR u c 561 = GS G k ∧ ns = [(0, zI u c 560, (k : Int), zI u c 562)]) ∨
      (zT u c = 16 ∧ (zI u c 600 = 0 ∨ zI u c 600 = 1) ∧ ∃ (l b n : Nat) (el : Nat → Nat) (rows : Nat → List Nd) (qs : Nat → Nd), zR u c 601 = some l ∧ LA u l b n ∧ F l ∧ F b ∧ 1 ≤ n ∧ n ≤ 5000 ∧ (∀ i, i < n → zB u b i = some (el i) ∧ CA F G u d (el i) (rows i)) ∧ (∀ i, 1 ≤ i → (qs i).1 = if zI u c 600 = 0 then 3 else 4) ∧ ns = mrow rows qs (n - 1)))
theorem CA_sam {F F' : Nat → Prop} {G : CG} {u u' : Sg} (hF : ∀ a, F a → F' a ∧ sam u u' a) (hg : gro u u') : ∀ d c ns, CA F G u d c ns → CA F' G u' d c ns := by
  intro d
  induction d with
  | zero => intro c ns h; exact h
  | succ d ih =>
    intro c ns h
    obtain ⟨hc, h⟩ := h
    obtain ⟨hc', e1, e2, e3, e4, e5, e6⟩ := hF c hc
    refine ⟨hc', ?_⟩
    rw [e1, e3, e4]
    rcases h with ⟨h1, o, ns', q, h2, h3, h4, h5⟩ | h | h | h | ⟨h1, h2, l, b, n, el, rows, qs, h3, h4, h5, h6, h7, h8, h9, h10, h11⟩
    · exact Or.inl ⟨h1, o, ns', q, h2, ih _ _ h3, h4, h5⟩
    · exact Or.inr (Or.inl h)
    · exact Or.inr (Or.inr (Or.inl h))
    · exact Or.inr (Or.inr (Or.inr (Or.inl h)))
    · refine Or.inr (Or.inr (Or.inr (Or.inr ⟨h1, h2, l, b, n, el, rows, qs, h3, LA_sam h4 (hF l h5).2 (hF b h6).2 hg.1 (fun x hx => (hg.2 x hx).1), (hF l h5).1, (hF b h6).1, h7, h8, fun i hi => ?_, h10, h11⟩)))
      obtain ⟨p, q⟩ := h9 i hi
      exact ⟨by rw [(hF b h6).2.2.2.2.2.2]; exact p, ih _ _ q⟩
theorem CA_up {F : Nat → Prop} {G : CG} {u : Sg} : ∀ d c ns, CA F G u d c ns → CA F G u (d + 1) c ns := by
  intro d
  induction d with
  | zero => intro c ns h; exact absurd h (by simp [CA])
  | succ d ih =>
    intro c ns h
    obtain ⟨hc, h⟩ := h
    refine ⟨hc, ?_⟩
    rcases h with ⟨h1, o, ns', q, h2, h3, h4, h5⟩ | h | h | h | ⟨h1, h2, l, b, n, el, rows, qs, h3, h4, h5, h6, h7, h8, h9, h10, h11⟩
    · exact Or.inl ⟨h1, o, ns', q, h2, ih _ _ h3, h4, h5⟩
    · exact Or.inr (Or.inl h)
    · exact Or.inr (Or.inr (Or.inl h))
    · exact Or.inr (Or.inr (Or.inr (Or.inl h)))
    · exact Or.inr (Or.inr (Or.inr (Or.inr ⟨h1, h2, l, b, n, el, rows, qs, h3, h4, h5, h6, h7, h8, fun i hi => ⟨(h9 i hi).1, ih _ _ (h9 i hi).2⟩, h10, h11⟩)))
theorem CA_le {F : Nat → Prop} {G : CG} {u : Sg} {d e c : Nat} {ns : List Nd} (h : CA F G u d c ns) (hd : d ≤ e) : CA F G u e c ns := by
  induction hd with
  | refl => exact h
  | step _ ih => exact CA_up _ _ _ ih
theorem mrow_isC {rows : Nat → List Nd} {qs : Nat → Nd} {op : Int} (hop : op = 3 ∨ op = 4) (hq : ∀ i, 1 ≤ i → (qs i).1 = op) : ∀ k, (∀ i, i ≤ k → isC (rows i)) → isC (mrow rows qs k) := by
  intro k
  induction k with
  | zero => intro h; exact h 0 (Nat.le_refl _)
  | succ k ih => intro h; exact isC_app_bin (ih (fun i hi => h i (by omega))) (h (k + 1) (Nat.le_refl _)) (by rw [hq _ (by omega)]; exact hop)
theorem CA_isC {F : Nat → Prop} {G : CG} {u : Sg} : ∀ d c ns, CA F G u d c ns → isC ns := by
  intro d
  induction d with
  | zero => intro c ns h; exact absurd h (by simp [CA])
  | succ d ih =>
    intro c ns h
    rcases h with ⟨-, ⟨h1, o, ns', q, h2, h3, h4, h5⟩ | ⟨h1, q, h2, h3, h4⟩ | ⟨h1, h2, h3⟩ | ⟨h1, k, h2, h3, h4⟩ | ⟨h1, h2, l, b, n, el, rows, qs, h3, h4, h5, h6, h7, h8, h9, h10, h11⟩⟩
    · rw [h5]; exact isC_app_not (ih _ _ h3) h4
    · rw [h4]; exact isC_leaf (Or.inr h2)
    · rw [h3]; exact isC_leaf (Or.inl rfl)
    · rw [h4]; exact isC_leaf (Or.inl rfl)
    · rw [h11]
      refine mrow_isC (op := if zI u c 600 = 0 then 3 else 4) (by split <;> simp) h10 (n - 1) (fun i hi => ih _ _ (h9 i (by omega)).2)
theorem tru_mrow {rows : Nat → List Nd} {qs : Nat → Nd} {op : Int} (hop : op = 3 ∨ op = 4) (hq : ∀ i, 1 ≤ i → (qs i).1 = op) (vals mns : Nat → Int) : ∀ k, (∀ i, i ≤ k → isC (rows i)) → (tru vals mns (mrow rows qs k) = true ↔ if op = 3 then ∀ i, i ≤ k → tru vals mns (rows i) = true else ∃ i, i ≤ k ∧ tru vals mns (rows i) = true) := by
  intro k
  induction k with
  | zero =>
    intro h
    simp only [mrow]
    split
    · constructor
      · intro e i hi; rw [Nat.le_zero.mp hi]; exact e
      · intro e; exact e 0 (Nat.le_refl _)
    · constructor
      · intro e; exact ⟨0, Nat.le_refl _, e⟩
      · rintro ⟨i, hi, e⟩; rw [Nat.le_zero.mp hi] at e; exact e
  | succ k ih =>
    intro h
    have h1 := ih (fun i hi => h i (by omega))
    simp only [mrow]
    rw [tru_bin (mrow_isC hop hq k (fun i hi => h i (by omega))) (h _ (Nat.le_refl _)) (by rw [hq _ (by omega)]; exact hop), hq _ (by omega)]
    split
    · next h3 =>
      rw [if_pos h3] at h1
      rw [Bool.and_eq_true, h1]
      constructor
      · rintro ⟨a, b⟩ i hi
        by_cases hk : i = k + 1
        · rw [hk]; exact b
        · exact a i (by omega)
      · intro a; exact ⟨fun i hi => a i (by omega), a _ (Nat.le_refl _)⟩
    · next h3 =>
      rw [if_neg h3] at h1
      rw [Bool.or_eq_true, h1]
      constructor
      · rintro (⟨i, hi, e⟩ | e)
        · exact ⟨i, by omega, e⟩
        · exact ⟨k + 1, Nat.le_refl _, e⟩
      · rintro ⟨i, hi, e⟩
        by_cases hk : i = k + 1
        · rw [hk] at e; exact Or.inr e
        · exact Or.inl ⟨i, by omega, e⟩
theorem mrow_mem {rows : Nat → List Nd} {qs : Nat → Nd} {x : Nd} : ∀ k i, i ≤ k → x ∈ rows i → x ∈ mrow rows qs k := by
  intro k
  induction k with
  | zero => intro i hi h; rw [Nat.le_zero.mp hi] at h; exact h
  | succ k ih =>
    intro i hi h
    simp only [mrow, List.mem_append]
    by_cases hk : i = k + 1
    · rw [hk] at h; exact Or.inl (Or.inr h)
    · exact Or.inl (Or.inl (ih i (by omega) h))
theorem holds_eq {G : CG} {u : Sg} {s k : Nat} (hs : zT u s = 23 + k) (hk : k < 6) {x y : Int} (hx : w32 x = x) (hy : w32 y = y) : kv_holds G (some s) x y u = some (b2i (hS k x y)) := by
  unfold kv_holds
  rw [Option.bind_some, hs]
  rcases (show k = 0 ∨ k = 1 ∨ k = 2 ∨ k = 3 ∨ k = 4 ∨ k = 5 by omega) with rfl | rfl | rfl | rfl | rfl | rfl <;>
  · simp only [hvC, hx, hy, hS, b2i]
    simp [apply_ite, ite_not] <;> omega
/-- the truth of a condition, by the class -/
theorem isTrue_eq {F : Nat → Prop} {G : CG} {u : Sg} {fu va me : Nat} (hSt : St G u) (hf : zT u fu = 2) (h40 : zR u fu 40 = some va) (h41 : zR u fu 41 = some me) (hva : zT u va = 101) (hvl : zL u va = 8) (hme : zT u me = 103) (hml : zL u me = 12) {nf nm : Int} (hnf : nf ≤ 8) (hnm : nm ≤ 12)
    (hv : ∀ i : Nat, (i : Int) < nf → w32 (zA u va i) = zA u va i) (hm : ∀ i : Nat, (i : Int) < nm → zA u me i = 0 ∨ zA u me i = 1) : ∀ d c ns, CA F G u d c ns → (∀ q ∈ ns, okN nf nm q) → ∀ e, d ≤ e → kv_isTrue G e (some c) (some fu) u = some (b2i (tru (zA u va) (zA u me) ns)) := by
  intro d
  induction d with
  | zero => intro c ns h; exact absurd h (by simp [CA])
  | succ d ih =>
    intro c ns h hb e he
    obtain ⟨e, rfl⟩ : ∃ k, e = k + 1 := ⟨e - 1, by omega⟩
    have hC := CA_isC _ _ _ h
    rcases h with ⟨-, ⟨h1, o, ns', q, h2, h3, h4, h5⟩ | ⟨h1, q, h2, h3, h4⟩ | ⟨h1, h2, h3⟩ | ⟨h1, k, h2, h3, h4⟩ | ⟨h1, h2, l, b, n, el, rows, qs, h3, h4, h5, h6, h7, h8, h9, h10, h11⟩⟩
    · subst h5
      unfold kv_isTrue f11_isTrue
      rw [Option.bind_some, if_pos h1, gfR_v h1 h2, Option.bind_some, ih _ _ h3 (fun q hq => hb q (List.mem_append_left _ hq)) e (by omega), Option.bind_some, w32_b2i, tru_not (CA_isC _ _ _ h3) h4]
      cases tru (zA u va) (zA u me) ns' <;> rfl
    · subst h4
      obtain ⟨b1, b2, b3, b4⟩ := hb q (List.mem_cons_self)
      obtain ⟨b5, b6⟩ := b4 h2
      unfold kv_isTrue f12_isTrue
      have hx : zI u c 480 = ((q.2.1.toNat : Nat) : Int) := by omega
      rw [Option.bind_some, if_neg (by omega), if_pos h1, gfR_v hf h41, Option.bind_some, gfI_v h1 hx, Option.bind_some, alI_e q.2.1.toNat hme rfl (by omega) (by omega), Option.bind_some]
      have ht : tru (zA u va) (zA u me) [q] = decide (zA u me q.2.1.toNat ≠ 0) := by
        unfold tru; simp only [runN, stepN]; rw [if_neg (by omega), if_pos h2]
      rw [ht]
      rcases hm q.2.1.toNat (by omega) with z | z <;> rw [z] <;> rfl
    · subst h3
      obtain ⟨b1, b2, b3, b4⟩ := hb _ (List.mem_cons_self)
      obtain ⟨b5, b6, b7, b8, b9, b10⟩ := b3 rfl
      simp only at b5 b6 b7 b8 b9 b10
      unfold kv_isTrue f13_isTrue
      have hx : zI u c 520 = (((zI u c 520).toNat : Nat) : Int) := by omega
      rw [Option.bind_some, if_neg (by omega), if_neg (by omega), if_pos h1, gfR_v hf h40, Option.bind_some, gfI_e h1, Option.bind_some, alI_e (zI u c 520).toNat hva hx (by omega) (by omega), Option.bind_some, gfI_e h1, Option.bind_some, hv _ (by omega), w32_id (x := zI u c 521) (by omega) (by omega)]
      unfold f13_isTrue_b21
      have ht : tru (zA u va) (zA u me) [(0, zI u c 520, if zI u c 522 = 0 then 0 else 5, zI u c 521)] = hS (if zI u c 522 = 0 then 0 else 5) (zA u va (zI u c 520).toNat) (zI u c 521) := by
        unfold tru; simp only [runN, stepN]; rw [if_pos trivial]
      rw [ht, gfI_e h1, Option.bind_some, Option.bind_some]
      have w0 : w32 0 = 0 := rfl
      have w1 : w32 1 = 1 := rfl
      by_cases hq : zA u va (zI u c 520).toNat = zI u c 521
      · rw [if_pos hq]
        rcases h2 with z | z <;> rw [z] <;> simp [hS, b2i, w0, w1, hq]
      · rw [if_neg hq]
        rcases h2 with z | z <;> rw [z] <;> simp [hS, b2i, w0, w1, hq]
    · subst h4
      obtain ⟨b1, b2, b3, b4⟩ := hb _ (List.mem_cons_self)
      obtain ⟨b5, b6, b7, b8, b9, b10⟩ := b3 rfl
      simp only at b5 b6 b7 b8 b9 b10
      obtain ⟨s, hs1, hs2, hs3⟩ := hSt.1 k h2
      unfold kv_isTrue f14_isTrue
      have hx : zI u c 560 = (((zI u c 560).toNat : Nat) : Int) := by omega
      rw [hs1] at h3
      rw [Option.bind_some, if_neg (by omega), if_neg (by omega), if_neg (by omega), if_pos h1, gfR_v h1 h3, Option.bind_some, gfR_v hf h40, Option.bind_some, gfI_e h1, Option.bind_some, alI_e (zI u c 560).toNat hva hx (by omega) (by omega), Option.bind_some, gfI_e h1, Option.bind_some, holds_eq hs3 h2 (hv _ (by omega)) (w32_id (by omega) (by omega)), Option.bind_some, w32_b2i]
      have ht : tru (zA u va) (zA u me) [(0, zI u c 560, (k : Int), zI u c 562)] = hS k (zA u va (zI u c 560).toNat) (zI u c 562) := by
        unfold tru; simp only [runN, stepN]; rw [if_pos trivial]
      rw [ht]
      cases hS k (zA u va (zI u c 560).toNat) (zI u c 562) <;> rfl
    · subst h11
      unfold kv_isTrue
      rw [Option.bind_some, if_neg (by omega), if_neg (by omega), if_neg (by omega), if_neg (by omega), if_pos h1]
      have hr : ∀ i, i < n → kv_isTrue G e (some (el i)) (some fu) u = some (b2i (tru (zA u va) (zA u me) (rows i))) := fun i hi => ih _ _ (h9 i hi).2 (fun q hq => hb q (mrow_mem _ i (by omega) hq)) e (by omega)
      have hct : ∀ i, i < n → zT u (el i) ∈ [12, 13, 14, 15, 16] := by
        intro i hi
        have := (h9 i hi).2
        cases d with
        | zero => exact absurd this (by simp [CA])
        | succ d =>
          obtain ⟨-, q | q | q | q | q⟩ := this <;> rw [q.1] <;> decide
      have key := loop_ind (fun k (i : Nat) => f15_isTrue_l2 G (kv_isTrue G e) (some c) (some fu) u k (i : Int)) (fun i => n - i) (fun i => i ≤ n ∧ ∀ j, j < i → b2i (tru (zA u va) (zA u me) (rows j)) ≠ zI u c 600) (fun _ r => (r = .inl () ∧ ∃ j, j < n ∧ b2i (tru (zA u va) (zA u me) (rows j)) = zI u c 600) ∨ (r = .inr () ∧ ∀ j, j < n → b2i (tru (zA u va) (zA u me) (rows j)) ≠ zI u c 600)) (by
        intro k i ⟨hi, hj⟩ hrec
        show ok (f15_isTrue_l2 G (kv_isTrue G e) (some c) (some fu) u (k + 1) (i : Int)) _
        unfold f15_isTrue_l2
        refine ok_eq (gfR_v h1 h3) (ok_eq (ztg_e h4.1) (ok_eq (J_size h4) ?_))
        rw [w32_n (by omega), w32_n (by omega)]
        refine ok_ite (fun hc => ?_) (fun hc => ?_)
        · exact ok_some (Or.inr ⟨rfl, fun j hjn => hj j (by omega)⟩)
        · refine ok_eq (gfR_v h1 h3) (ok_eq (ztg_e h4.1) (ok_eq (J_get h4 i rfl (by omega)) ?_))
          rw [(h9 i (by omega)).1]
          refine ok_eq (zcast_e (hct i (by omega))) (ok_eq (hr i (by omega)) (ok_eq (gfI_e h1) ?_))
          rw [w32_b2i, w32_id (x := zI u c 600) (by omega) (by omega)]
          refine ok_ite (fun hq => ?_) (fun hq => ?_)
          · exact ok_some (Or.inl ⟨rfl, i, by omega, hq⟩)
          · have := hrec (i + 1) ⟨by omega, fun j hj2 => by
              by_cases hji : j = i
              · rw [hji]; exact hq
              · exact hj j (by omega)⟩ (by omega)
            exact this) NN 0 ⟨Nat.zero_le _, fun j hj => absurd hj (Nat.not_lt_zero _)⟩ (NN_gt (by omega))
      obtain ⟨r, er, hrr⟩ := key
      unfold f15_isTrue
      have er' : f15_isTrue_l2 G (kv_isTrue G e) (some c) (some fu) u NN 0 = some r := er
      rw [er', Option.bind_some]
      have htm := tru_mrow (rows := rows) (qs := qs) (op := if zI u c 600 = 0 then 3 else 4) (by split <;> simp) h10 (zA u va) (zA u me) (n - 1) (fun i hi => CA_isC _ _ _ (h9 i (by omega)).2)
      rcases hrr with ⟨rfl, j, hj, hjt⟩ | ⟨rfl, hall⟩
      · simp only [Sum.elim_inl]
        rw [gfI_e h1, Option.bind_some]
        rcases h2 with z | z
        · rw [z] at hjt htm ⊢
          have : tru (zA u va) (zA u me) (mrow rows qs (n - 1)) = false := by
            rw [← Bool.not_eq_true]
            intro hh
            have := htm.mp hh
            rw [if_pos (by simp)] at this
            have h0 := this j (by omega)
            rw [h0] at hjt; cases hjt
          rw [this]; rfl
        · rw [z] at hjt htm ⊢
          have : tru (zA u va) (zA u me) (mrow rows qs (n - 1)) = true := by
            rw [htm, if_neg (by simp)]
            exact ⟨j, by omega, b2i_1.mp hjt⟩
          rw [this]; rfl
      · simp only [Sum.elim_inr]
        rw [gfI_e h1, Option.bind_some]
        rcases h2 with z | z
        · rw [z] at hall htm ⊢
          have : tru (zA u va) (zA u me) (mrow rows qs (n - 1)) = true := by
            rw [htm, if_pos (by simp)]
            intro i hi
            have := hall i (by omega)
            cases hh : tru (zA u va) (zA u me) (rows i)
            · rw [hh] at this; exact absurd rfl this
            · rfl
          rw [this]; rfl
        · rw [z] at hall htm ⊢
          have : tru (zA u va) (zA u me) (mrow rows qs (n - 1)) = false := by
            rw [← Bool.not_eq_true]
            intro hh
            have := htm.mp hh
            rw [if_neg (by simp)] at this
            obtain ⟨i, hi, h0⟩ := this
            exact hall i (by omega) (by rw [h0]; rfl)
          rw [this]; rfl
