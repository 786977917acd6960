/-! STARTS: rising rows and their sets -/
def SRT (n : Nat) (a : Nat → Int) (X : Int → Prop) : Prop := (∀ i j, i < j → j < n → a i < a j) ∧ ∀ x, X x ↔ ∃ k, k < n ∧ a k = x
theorem SRT_cg {n : Nat} {a a' : Nat → Int} {X Y : Int → Prop} (h : SRT n a X) (ha : ∀ k, k < n → a k = a' k) (e : ∀ x, X x ↔ Y x) : SRT n a' Y :=
  ⟨fun i j hi hj => by rw [← ha i (by omega), ← ha j hj]; exact h.1 i j hi hj, fun x => by
    rw [← e x, h.2 x]
    exact ⟨fun ⟨k, h1, h2⟩ => ⟨k, h1, by rw [← ha k h1]; exact h2⟩, fun ⟨k, h1, h2⟩ => ⟨k, h1, by rw [ha k h1]; exact h2⟩⟩⟩
theorem SRT_le {n : Nat} {a : Nat → Int} {X : Int → Prop} (h : SRT n a X) {i j : Nat} (hij : i ≤ j) (hj : j < n) : a i ≤ a j := by
  by_cases q : i = j
  · rw [q]; exact Int.le_refl _
  · have := h.1 i j (by omega) hj; omega
theorem SRT_eqv {n n' : Nat} {a a' : Nat → Int} {X : Int → Prop} (h : SRT n a X) (h' : SRT n' a' X) : ∀ k, k < n → k < n' → a k = a' k := by
  intro k
  induction k using Nat.strongRecOn with
  | ind k ih =>
    intro h1 h2
    obtain ⟨j, j1, j2⟩ := (h'.2 _).mp ((h.2 _).mpr ⟨k, h1, rfl⟩)
    obtain ⟨i, i1, i2⟩ := (h.2 _).mp ((h'.2 _).mpr ⟨k, h2, rfl⟩)
    have hj : k ≤ j := by
      refine Classical.byContradiction fun q => ?_
      have := ih j (by omega) (by omega) j1
      have := h.1 j k (by omega) h1
      omega
    have hi : k ≤ i := by
      refine Classical.byContradiction fun q => ?_
      have := ih i (by omega) i1 (by omega)
      have := h'.1 i k (by omega) h2
      omega
    have := SRT_le h' hj j1
    have := SRT_le h hi i1
    omega
theorem SRT_n {n n' : Nat} {a a' : Nat → Int} {X : Int → Prop} (h : SRT n a X) (h' : SRT n' a' X) : ¬ n < n' := by
  intro hn
  obtain ⟨j, j1, j2⟩ := (h.2 _).mp ((h'.2 _).mpr ⟨n, hn, rfl⟩)
  have := SRT_eqv h h' j j1 (by omega)
  have := h'.1 j n j1 hn
  omega
theorem SRT_uniq {n n' : Nat} {a a' : Nat → Int} {X : Int → Prop} (h : SRT n a X) (h' : SRT n' a' X) : n = n' ∧ ∀ k, k < n → a k = a' k := by
  have h1 := SRT_n h h'
  have h2 := SRT_n h' h
  exact ⟨by omega, fun k hk => SRT_eqv h h' k hk (by omega)⟩
def insA (a : Nat → Int) (j : Nat) (v : Int) (i : Nat) : Int := if i < j then a i else if i = j then v else a (i - 1)
theorem SRT_ins {n j : Nat} {a : Nat → Int} {X : Int → Prop} {v : Int} (h : SRT n a X) (hj : j ≤ n) (hlo : ∀ i, i < j → a i < v) (hhi : ∀ i, j ≤ i → i < n → v < a i) : SRT (n + 1) (insA a j v) (fun x => X x ∨ x = v) := by
  refine ⟨fun i k hik hk => ?_, fun x => ?_⟩
  · unfold insA
    by_cases q1 : k < j
    · rw [if_pos q1, if_pos (show i < j by omega)]; exact h.1 i k hik (by omega)
    · rw [if_neg q1]
      by_cases q2 : k = j
      · rw [if_pos q2, if_pos (show i < j by omega)]; exact hlo i (by omega)
      · rw [if_neg q2]
        by_cases q3 : i < j
        · rw [if_pos q3]
          have := hlo i q3
          have := hhi (k - 1) (by omega) (by omega)
          omega
        · rw [if_neg q3]
          by_cases q4 : i = j
          · rw [if_pos q4]; exact hhi (k - 1) (by omega) (by omega)
          · rw [if_neg q4]; exact h.1 (i - 1) (k - 1) (by omega) (by omega)
  · show (X x ∨ x = v) ↔ _
    rw [h.2 x]
    constructor
    · rintro (⟨k, k1, k2⟩ | z)
      · by_cases q : k < j
        · exact ⟨k, by omega, by unfold insA; rw [if_pos q]; exact k2⟩
        · exact ⟨k + 1, by omega, by unfold insA; rw [if_neg (by omega), if_neg (by omega)]; exact k2⟩
      · exact ⟨j, by omega, by unfold insA; rw [if_neg (by omega), if_pos rfl, z]⟩
    · rintro ⟨k, k1, k2⟩
      unfold insA at k2
      by_cases q1 : k < j
      · rw [if_pos q1] at k2; exact Or.inl ⟨k, by omega, k2⟩
      · rw [if_neg q1] at k2
        by_cases q2 : k = j
        · rw [if_pos q2] at k2; exact Or.inr k2.symm
        · rw [if_neg q2] at k2; exact Or.inl ⟨k - 1, by omega, k2⟩
/-- as many as there is room for -/
theorem inj_le : ∀ (n : Nat) (l : List Int) (a : Nat → Int), (∀ i j, i < j → j < n → a i ≠ a j) → (∀ k, k < n → a k ∈ l) → n ≤ l.length := by
  intro n
  induction n with
  | zero => intro l a _ _; exact Nat.zero_le _
  | succ n ih =>
    intro l a hi hm
    have h1 := hm n (by omega)
    have := ih (l.erase (a n)) a (fun i j h1 h2 => hi i j h1 (by omega)) (fun k hk => (List.mem_erase_of_ne (hi k n hk (by omega))).mpr (hm k (by omega)))
    rw [List.length_erase_of_mem h1] at this
    have := List.length_pos_of_mem h1
    omega
theorem SRT_len {n : Nat} {a : Nat → Int} {X : Int → Prop} {l : List Int} (h : SRT n a X) (hl : ∀ x, X x → x ∈ l) : n ≤ l.length :=
  inj_le n l a (fun i j h1 h2 => by have := h.1 i j h1 h2; omega) (fun k hk => hl _ ((h.2 _).mpr ⟨k, hk, rfl⟩))
/-! joint's Starts in the heap -/
theorem rSt {G : CG} {u : Sg} {L : Ly} (h : Rt G u L) {f : Nat} (hf : f < 8) : (zT u (L.1 (160 + f)) = 5 ∧ L.2 (L.1 (160 + f)) = 160 + f ∧ G0 G ≤ L.1 (160 + f)) ∧ (zT u (L.1 (170 + f)) = 101 ∧ zL u (L.1 (170 + f)) = 1220 ∧ L.2 (L.1 (170 + f)) = 170 + f ∧ G0 G ≤ L.1 (170 + f)) ∧ zR u (L.1 (160 + f)) 160 = some (L.1 (170 + f)) := by
  rcases (show f = 0 ∨ f = 1 ∨ f = 2 ∨ f = 3 ∨ f = 4 ∨ f = 5 ∨ f = 6 ∨ f = 7 by omega) with rfl | rfl | rfl | rfl | rfl | rfl | rfl | rfl
  · exact ⟨⟨rT160 h, rC160 h, rG160 h⟩, ⟨rT170 h, rL170 h, rC170 h, rG170 h⟩, rR160_160 h⟩
  · exact ⟨⟨rT161 h, rC161 h, rG161 h⟩, ⟨rT171 h, rL171 h, rC171 h, rG171 h⟩, rR161_160 h⟩
  · exact ⟨⟨rT162 h, rC162 h, rG162 h⟩, ⟨rT172 h, rL172 h, rC172 h, rG172 h⟩, rR162_160 h⟩
  · exact ⟨⟨rT163 h, rC163 h, rG163 h⟩, ⟨rT173 h, rL173 h, rC173 h, rG173 h⟩, rR163_160 h⟩
  · exact ⟨⟨rT164 h, rC164 h, rG164 h⟩, ⟨rT174 h, rL174 h, rC174 h, rG174 h⟩, rR164_160 h⟩
  · exact ⟨⟨rT165 h, rC165 h, rG165 h⟩, ⟨rT175 h, rL175 h, rC175 h, rG175 h⟩, rR165_160 h⟩
  · exact ⟨⟨rT166 h, rC166 h, rG166 h⟩, ⟨rT176 h, rL176 h, rC176 h, rG176 h⟩, rR166_160 h⟩
  · exact ⟨⟨rT167 h, rC167 h, rG167 h⟩, ⟨rT177 h, rL177 h, rC177 h, rG177 h⟩, rR167_160 h⟩
/-- since u only the Starts of the fact f have changed -/
def scs (L : Ly) (f : Nat) (u t : Sg) : Prop := (zT t = zT u ∧ zL t = zL u ∧ zR t = zR u ∧ zB t = zB u ∧ zN t = zN u) ∧ (∀ a, L.2 a ≠ 160 + f → zI t a = zI u a) ∧ ∀ a, L.2 a ≠ 170 + f → zA t a = zA u a
theorem scs_rf {L : Ly} {f : Nat} {u : Sg} : scs L f u u := ⟨⟨rfl, rfl, rfl, rfl, rfl⟩, fun _ _ => rfl, fun _ _ => rfl⟩
theorem scs_tr {L : Ly} {f : Nat} {u v w : Sg} (h : scs L f u v) (k : scs L f v w) : scs L f u w :=
  ⟨⟨k.1.1.trans h.1.1, k.1.2.1.trans h.1.2.1, k.1.2.2.1.trans h.1.2.2.1, k.1.2.2.2.1.trans h.1.2.2.2.1, k.1.2.2.2.2.trans h.1.2.2.2.2⟩, fun a ha => (k.2.1 a ha).trans (h.2.1 a ha), fun a ha => (k.2.2 a ha).trans (h.2.2 a ha)⟩
theorem scs_I {L : Ly} {f : Nat} {u v : Sg} {a g : Nat} {x : Int} (h : scs L f u v) (ha : L.2 a = 160 + f) : scs L f u (zsI v a g x) :=
  ⟨h.1, fun b hb => by rw [zI_ne (fun q => hb (by rw [q]; exact ha))]; exact h.2.1 b hb, h.2.2⟩
theorem scs_A {L : Ly} {f : Nat} {u v : Sg} {a g : Nat} {x : Int} (h : scs L f u v) (ha : L.2 a = 170 + f) : scs L f u (zsA v a g x) :=
  ⟨h.1, h.2.1, fun b hb => by rw [zA_ne (fun q => hb (by rw [q]; exact ha))]; exact h.2.2 b hb⟩
theorem scs_scr {L : Ly} {f : Nat} (hf : f < 8) {u v : Sg} (h : scs L f u v) : scr L u v := by
  have h1 : 160 + f ∈ SCR := by simp [SCR]; omega
  have h2 : 170 + f ∈ SCR := by simp [SCR]; omega
  exact ⟨h.1.1, h.1.2.1, h.1.2.2.2.1, h.1.2.2.2.2, fun a g _ _ => by rw [h.1.2.2.1], fun a ha => ⟨h.2.2 a (fun q => ha (by rw [q]; exact h2)), fun g _ => by rw [h.2.1 a (fun q => ha (by rw [q]; exact h1))]⟩⟩
theorem scs_sam {L : Ly} {f : Nat} {u v : Sg} (h : scs L f u v) {a : Nat} (h1 : L.2 a ≠ 160 + f) (h2 : L.2 a ≠ 170 + f) : sam u v a :=
  ⟨by rw [h.1.1], by rw [h.1.2.1], h.2.1 a h1, by rw [h.1.2.2.1], h.2.2 a h2, by rw [h.1.2.2.2.1]⟩
theorem scs_Rt {G : CG} {L : Ly} {f : Nat} (hf : f < 8) {u v : Sg} {m : Mu} (h : RC G L u m) (k : scs L f u v) : RC G L v m := RC_scr h (scs_scr hf k)
/-- the Starts of the fact f: the rising row of X -/
def ST (L : Ly) (t : Sg) (f n : Nat) (a : Nat → Int) (hi : Int) : Prop := zI t (L.1 (160 + f)) 161 = (n : Int) ∧ zI t (L.1 (160 + f)) 162 = hi ∧ ∀ k, k < n → zA t (L.1 (170 + f)) k = a k
def SQ (L : Ly) (t : Sg) (f : Nat) (lo hi : Int) (l : List Int) (X : Int → Prop) : Prop := ∃ n a, ST L t f n a hi ∧ SRT n a X ∧ 1 ≤ n ∧ a 0 = lo ∧ (∀ k, k < n → a k ≤ hi) ∧ ∀ x, X x → x ∈ l
theorem SQ_cg {L : Ly} {t : Sg} {f : Nat} {lo hi : Int} {l : List Int} {X Y : Int → Prop} (h : SQ L t f lo hi l X) (e : ∀ x, X x ↔ Y x) : SQ L t f lo hi l Y := by
  obtain ⟨n, a, h1, h2, h3, h4, h5, h6⟩ := h
  exact ⟨n, a, h1, SRT_cg h2 (fun _ _ => rfl) e, h3, h4, h5, fun x hx => h6 x ((e x).mpr hx)⟩
theorem SQ_sam {L : Ly} {t t' : Sg} {f : Nat} {lo hi : Int} {l : List Int} {X : Int → Prop} (h : SQ L t f lo hi l X) (e1 : zI t' (L.1 (160 + f)) = zI t (L.1 (160 + f))) (e2 : zA t' (L.1 (170 + f)) = zA t (L.1 (170 + f))) : SQ L t' f lo hi l X := by
  obtain ⟨n, a, ⟨a1, a2, a3⟩, k⟩ := h
  exact ⟨n, a, ⟨by rw [e1]; exact a1, by rw [e1]; exact a2, by rw [e2]; exact a3⟩, k⟩
theorem c_add {G : CG} {L : Ly} {u : Sg} (hR : Rt G u L) {f : Nat} (hf : f < 8) {lo hi v : Int} {l : List Int} {X : Int → Prop} (h : SQ L u f lo hi l X) (hl : l.length < 1220) (hb : 0 ≤ lo ∧ hi ≤ 999999999) (hv : 0 ≤ v ∧ v ≤ 1000000000) (hvl : lo < v → v ≤ hi → v ∈ l) : ∃ u', f4_add G (some (L.1 (160 + f))) v u = some u' ∧ scs L f u u' ∧ SQ L u' f lo hi l (fun x => X x ∨ (x = v ∧ lo < v ∧ v ≤ hi)) := by
  obtain ⟨n, a, ⟨s1, s2, s3⟩, hs, n1, a0, ahi, hXl⟩ := id h
  obtain ⟨⟨t1, t2, t3⟩, ⟨r1, r2, r3, r4⟩, rr⟩ := rSt hR hf
  have hn := SRT_len hs hXl
  have alo : ∀ k, k < n → lo ≤ a k := fun k hk => by rw [← a0]; exact SRT_le hs (Nat.zero_le k) hk
  have lohi : lo ≤ hi := by rw [← a0]; exact ahi 0 (by omega)
  have wv : w32 v = v := w32_id (by omega) (by omega)
  have wa : ∀ k, k < n → w32 (a k) = a k := fun k hk => w32_id (by have := alo k hk; omega) (by have := ahi k hk; omega)
  show ok (f4_add G (some (L.1 (160 + f))) v u) (fun u' => scs L f u u' ∧ SQ L u' f lo hi l (fun x => X x ∨ (x = v ∧ lo < v ∧ v ≤ hi)))
  unfold f4_add
  refine ok_eq (gfR_v t1 rr) (ok_eq (alI_e 0 r1 rfl (by omega) (by omega)) ?_)
  rw [s3 0 (by omega), a0, wv, w32_id (x := lo) (by omega) (by omega)]
  refine ok_ite (fun q1 => ok_some ⟨scs_rf, SQ_cg h (fun x => ⟨Or.inl, fun z => z.elim id (fun z => by omega)⟩)⟩) (fun q1 => ok_eq (gfI_v t1 s2) ?_)
  rw [w32_id (x := hi) (by omega) (by omega)]
  refine ok_ite (fun q2 => ok_eq (gfI_v t1 s1) ?_) (fun q2 => ok_some ⟨scs_rf, SQ_cg h (fun x => ⟨Or.inl, fun z => z.elim id (fun z => by omega)⟩)⟩)
  · -- where it belongs
    have key := loop_ind (fun q (j : Nat) => f4_add_l24 G (some (L.1 (160 + f))) v u q (j : Int)) (fun j => j) (fun j => 1 ≤ j ∧ j ≤ n ∧ ∀ i, j ≤ i → i < n → v < a i) (fun _ r => ∃ j : Nat, r = (j : Int) ∧ 1 ≤ j ∧ j ≤ n ∧ a (j - 1) ≤ v ∧ ∀ i, j ≤ i → i < n → v < a i) (by
      intro q j ⟨j1, j2, j3⟩ ih
      show ok (f4_add_l24 G (some (L.1 (160 + f))) v u (q + 1) (j : Int)) _
      unfold f4_add_l24
      refine ok_eq (gfR_v t1 rr) (ok_eq (alI_e (j - 1) r1 (by omega) (by omega) (by omega)) ?_)
      rw [s3 (j - 1) (by omega), wa (j - 1) (by omega), wv]
      refine ok_ite (fun z => ok_some ⟨j, rfl, j1, j2, z, j3⟩) (fun z => ?_)
      rw [show (j : Int) + (-1) = ((j - 1 : Nat) : Int) by omega]
      refine ih (j - 1) ⟨?_, by omega, fun i h1 h2 => ?_⟩ (by omega)
      · refine Classical.byContradiction fun y => ?_
        rw [show j - 1 = 0 by omega, a0] at z
        omega
      · by_cases y : i = j - 1
        · rw [y]; omega
        · exact j3 i (by omega) h2) NN n ⟨n1, Nat.le_refl _, fun i h1 h2 => by omega⟩ (NN_gt (by omega))
    obtain ⟨r, e1, j, rfl, j1, j2, j3, j4⟩ := key
    refine ok_eq e1 (ok_eq (gfR_v t1 rr) (ok_eq (alI_e (j - 1) r1 (by omega) (by omega) (by omega)) ?_))
    rw [s3 (j - 1) (by omega), wa (j - 1) (by omega)]
    refine ok_ite (fun q3 => ?_) (fun q3 => ok_eq (gfI_v t1 s1) ?_)
    · exact ok_some ⟨scs_rf, SQ_cg h (fun x => ⟨Or.inl, fun z => z.elim id (fun z => by rw [z.1, ← q3]; exact (hs.2 _).mpr ⟨j - 1, by omega, rfl⟩)⟩)⟩
    · have hlo : ∀ i, i < j → a i < v := fun i hi => by
        have := SRT_le hs (show i ≤ j - 1 by omega) (by omega)
        omega
      have hnew := SRT_ins hs j2 hlo j4
      have hXl2 : ∀ x, (X x ∨ x = v) → x ∈ l := fun x hx => hx.elim (hXl x) (fun z => by rw [z]; exact hvl (by omega) q2)
      have hn2 := SRT_len hnew hXl2
      have key := loop_ind (fun q (w : Nat × Sg) => f4_add_l60 G (some (L.1 (160 + f))) v (j : Int) q (w.1 : Int) w.2) (fun w => w.1) (fun w => j ≤ w.1 ∧ w.1 ≤ n ∧ scs L f u w.2 ∧ zI w.2 (L.1 (160 + f)) = zI u (L.1 (160 + f)) ∧ (∀ i, i < w.1 → zA w.2 (L.1 (170 + f)) i = a i) ∧ ∀ i, w.1 ≤ i → i < n → zA w.2 (L.1 (170 + f)) (i + 1) = a i) (fun _ r => scs L f u r ∧ zI r (L.1 (160 + f)) = zI u (L.1 (160 + f)) ∧ (∀ i, i < j → zA r (L.1 (170 + f)) i = a i) ∧ ∀ i, j ≤ i → i < n → zA r (L.1 (170 + f)) (i + 1) = a i) (by
        rintro q ⟨k, t⟩ ⟨k1, k2, k3, k4, k5, k6⟩ ih
        dsimp only at k1 k2 k3 k4 k5 k6 ⊢
        show ok (f4_add_l60 G (some (L.1 (160 + f))) v (j : Int) (q + 1) (k : Int) t) _
        unfold f4_add_l60
        rw [w32_n (by omega), w32_n (by omega)]
        refine ok_ite (fun z => ok_some ?_) (fun z => ?_)
        · rw [show k = j by omega] at k5 k6
          exact ⟨k3, k4, k5, k6⟩
        have x1 : zT t (L.1 (160 + f)) = 5 := by rw [k3.1.1]; exact t1
        have x2 : zR t (L.1 (160 + f)) 160 = some (L.1 (170 + f)) := by rw [k3.1.2.2.1]; exact rr
        have x3 : zT t (L.1 (170 + f)) = 100 + 1 := by rw [k3.1.1]; exact r1
        have x4 : zL t (L.1 (170 + f)) = 1220 := by rw [k3.1.2.1]; exact r2
        refine ok_eq (gfR_v x1 x2) (ok_eq (gfR_v x1 x2) (ok_eq (alI_e (k - 1) x3 (by omega) (by omega) (by omega)) (ok_eq (asI_e k x3 r4 rfl (by omega) (by omega)) ?_)))
        rw [show (k : Int) + (-1) = ((k - 1 : Nat) : Int) by omega, k5 (k - 1) (by omega)]
        refine ih (k - 1, zsA t (L.1 (170 + f)) k (a (k - 1))) ⟨by show j ≤ k - 1; omega, by show k - 1 ≤ n; omega, scs_A k3 r3, k4, fun i hi => ?_, fun i h1 h2 => ?_⟩ (by show k - 1 < k; omega)
        · dsimp only at hi ⊢
          rw [zsA_A, if_neg (fun y => by have := y.2; omega)]; exact k5 i (by omega)
        · dsimp only at h1 ⊢
          rw [zsA_A]
          by_cases y : i + 1 = k
          · rw [if_pos ⟨rfl, y⟩, show k - 1 = i by omega]
          · rw [if_neg (fun x => y x.2)]; exact k6 i (by omega) h2) NN (n, u) ⟨j2, Nat.le_refl _, scs_rf, rfl, s3, fun i h1 h2 => by dsimp only at h1; omega⟩ (NN_gt (by show n < 100000; omega))
      obtain ⟨t, e2, k3, k4, k5, k6⟩ := key
      have x1 : zT t (L.1 (160 + f)) = 5 := by rw [k3.1.1]; exact t1
      have x2 : zR t (L.1 (160 + f)) 160 = some (L.1 (170 + f)) := by rw [k3.1.2.2.1]; exact rr
      have x3 : zT t (L.1 (170 + f)) = 100 + 1 := by rw [k3.1.1]; exact r1
      have x4 : zL t (L.1 (170 + f)) = 1220 := by rw [k3.1.2.1]; exact r2
      have x5 : zI t (L.1 (160 + f)) 161 = (n : Int) := by rw [k4]; exact s1
      refine ok_eq e2 (ok_eq (gfR_v x1 x2) (ok_eq (asI_e j x3 r4 rfl (by omega) (by omega)) (ok_eq (gfI_v x1 x5) (ok_eq (pfI_e x1 t3) (ok_some ?_)))))
      refine ⟨scs_I (scs_A k3 r3) t2, n + 1, insA a j v, ⟨?_, ?_, fun k hk => ?_⟩, SRT_cg hnew (fun _ _ => rfl) (fun x => ⟨fun z => z.imp id (fun z => ⟨z, by omega, q2⟩), fun z => z.imp id (fun z => z.1)⟩), by omega, ?_, fun k hk => ?_, fun x hx => hXl2 x (hx.imp id (fun z => z.1))⟩
      · rw [zsI_I, if_pos ⟨rfl, rfl⟩]; omega
      · rw [zsI_I, if_neg (fun z => absurd z.2 (by decide))]
        show zI t (L.1 (160 + f)) 162 = hi
        rw [k4]; exact s2
      · rw [zsI_A, zsA_A]
        unfold insA
        by_cases y1 : k < j
        · rw [if_neg (fun z => by have := z.2; omega), if_pos y1]; exact k5 k y1
        · rw [if_neg y1]
          by_cases y2 : k = j
          · rw [if_pos ⟨rfl, y2⟩, if_pos y2]
          · rw [if_neg (fun z => y2 z.2), if_neg y2]
            have := k6 (k - 1) (by omega) (by omega)
            rw [show k - 1 + 1 = k by omega] at this
            exact this
      · unfold insA
        rw [if_pos (by omega)]; exact a0
      · unfold insA
        by_cases y1 : k < j
        · rw [if_pos y1]; exact ahi k (by omega)
        · rw [if_neg y1]
          by_cases y2 : k = j
          · rw [if_pos y2]; exact q2
          · rw [if_neg y2]; exact ahi (k - 1) (by omega)
