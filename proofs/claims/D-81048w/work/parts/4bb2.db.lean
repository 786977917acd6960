/-! THE CONSTRUCTOR of the class: what it has made so far -/
/-- at o the object; N cells since o; db: cells (place, tag, length), ln: links (cell, field, cell), lst: empty lists, kw: the words, f3: field 3 -/
def DB (G : CG) (bE : Nat) (s0 s1 : Sg) (B o : Nat) (t : Sg) (N : Nat) (db ln : List (Nat × Nat × Nat)) (lst : List Nat) (kw : List Int) (f3 : Int) : Prop :=
  (zN t = o + N ∧ 1 ≤ N ∧ (∀ q, q < o → sam s0 t q) ∧ (B ≤ o + N ∧ (∀ q, q < B → q ≠ o → sam s1 t q) ∧ (B = 0 ∨ gro s1 t)) ∧ G0 G ≤ o ∧ bE < o ∧ GS G 6 = some bE ∧ zT s0 bE = 105 ∧ zL s0 bE = 0 ∧ ∀ i, zB s0 bE i = none) ∧ (zT t o = 1 ∧ (∀ j, zI t o j = if j = 3 then f3 else 0) ∧ zL t o = 0) ∧ (∀ x ∈ db, x.1 < N ∧ x.1 ≠ 0 ∧ zT t (o + x.1) = x.2.1 ∧ zL t (o + x.1) = x.2.2 ∧ (∀ j, zI t (o + x.1) j = 0) ∧ (x.1 ≠ 1 → ∀ j, zA t (o + x.1) j = 0)) ∧ (∀ x ∈ ln, x.1 < N ∧ zR t (o + x.1) x.2.1 = some (o + x.2.2)) ∧ (∀ k ∈ lst, k < N ∧ k ≠ 0 ∧ LA t (o + k) bE 0 ∧ LW G t (o + k) bE) ∧ (kw ≠ [] → 2 ≤ N) ∧ ∀ i, i < kw.length → kw[i]? = some (zA t (o + 1) i)
theorem DB_new {G : CG} {bE : Nat} {s0 s1 : Sg} {B o : Nat} {t : Sg} {N : Nat} {db ln : List (Nat × Nat × Nat)} {lst : List Nat} {kw : List Int} {f3 : Int} (h : DB G bE s0 s1 B o t N db ln lst kw f3) (T n : Nat) : DB G bE s0 s1 B o (znew t T n) (N + 1) ((N, T, n) :: db) ln lst kw f3 := by
  obtain ⟨⟨a1, a2, a3, ⟨a4, a5, ag⟩, a6⟩, ⟨b1, b2, b3⟩, c, d, e, f1, f2⟩ := h
  have hs : ∀ q, q < o + N → sam t (znew t T n) q := fun q hq => sam_znew sam_rf (by omega)
  refine ⟨⟨by rw [znew_N]; omega, by omega, fun q hq => sam_tr (a3 q hq) (hs q (by omega)), ⟨by omega, fun q h1 h2 => sam_tr (a5 q h1 h2) (hs q (by omega)), ag.imp id (fun g => gro_tr g gro_new)⟩, a6⟩, ⟨by rw [(hs o (by omega)).1]; exact b1, fun j => by rw [(hs o (by omega)).2.2.1]; exact b2 j, by rw [(hs o (by omega)).2.1]; exact b3⟩, fun x hx => ?_, fun x hx => ?_, fun k hk => ?_, fun q => by have := f1 q; omega, fun i hi => ?_⟩
  · rcases List.mem_cons.mp hx with rfl | hx
    · dsimp only
      refine ⟨by omega, by omega, by rw [znew_T, if_pos a1.symm], by rw [znew_L, if_pos a1.symm], fun j => by rw [znew_I, if_pos a1.symm], fun _ j => by rw [znew_A, if_pos a1.symm]⟩
    · obtain ⟨k1, k2, k3, k4, k5, k6⟩ := c x hx
      have s := hs (o + x.1) (by omega)
      exact ⟨by omega, k2, by rw [s.1]; exact k3, by rw [s.2.1]; exact k4, fun j => by rw [s.2.2.1]; exact k5 j, fun q j => by rw [s.2.2.2.2.1]; exact k6 q j⟩
  · obtain ⟨k1, k2⟩ := d x hx
    exact ⟨by omega, by rw [(hs (o + x.1) (by omega)).2.2.2.1]; exact k2⟩
  · obtain ⟨k1, k2, k3, k4⟩ := e k hk
    have sb := hs bE (by omega)
    exact ⟨by omega, k2, LA_sam k3 (hs _ (by omega)) sb (by rw [znew_N]; omega) (fun x hx => (hs x (by omega)).1), ⟨k4.1, fun q => k4.2.1 (by rw [← sb.2.1]; exact q), fun q => k4.2.2 (by rw [← sb.2.1]; exact q)⟩⟩
  · rw [(hs (o + 1) (by have := f1 (fun q => by rw [q] at hi; exact absurd hi (Nat.not_lt_zero _)); omega)).2.2.2.2.1]; exact f2 i hi
theorem DB_R {G : CG} {bE : Nat} {s0 s1 : Sg} {B o : Nat} {t : Sg} {N : Nat} {db ln : List (Nat × Nat × Nat)} {lst : List Nat} {kw : List Int} {f3 : Int} (h : DB G bE s0 s1 B o t N db ln lst kw f3) (p g k : Nat) (hp : p < N) (hB : p = 0 ∨ B = 0) (hf : ∀ x ∈ ln, ¬ (x.1 = p ∧ x.2.1 = g)) (hl : p ∉ lst) : DB G bE s0 s1 B o (zsR t (o + p) g (some (o + k))) N db ((p, g, k) :: ln) lst kw f3 := by
  obtain ⟨⟨a1, a2, a3, ⟨a4, a5, ag⟩, a6⟩, ⟨b1, b2, b3⟩, c, d, e, f1, f2⟩ := h
  have hs : ∀ q, q ≠ o + p → sam t (zsR t (o + p) g (some (o + k))) q := fun q hq => sam_zsR sam_rf hq
  refine ⟨⟨a1, a2, fun q hq => sam_tr (a3 q hq) (hs q (by omega)), ⟨a4, fun q h1 h2 => sam_tr (a5 q h1 h2) (hs q (by omega)), ag.imp id (fun g => gro_tr g ⟨Nat.le_refl _, fun _ _ => ⟨rfl, rfl⟩⟩)⟩, a6⟩, ⟨b1, b2, b3⟩, c, fun x hx => ?_, fun j hj => ?_, f1, f2⟩
  · rcases List.mem_cons.mp hx with rfl | hx
    · exact ⟨hp, by rw [zsR_R, if_pos ⟨rfl, rfl⟩]⟩
    · obtain ⟨k1, k2⟩ := d x hx
      refine ⟨k1, ?_⟩
      rw [zsR_R, if_neg (fun q => hf x hx ⟨by omega, q.2⟩)]; exact k2
  · obtain ⟨k1, k2, k3, k4⟩ := e j hj
    have hjp : j ≠ p := fun q => hl (by rw [← q]; exact hj)
    exact ⟨k1, k2, LA_sam k3 (hs _ (by omega)) (hs bE (by omega)) (Nat.le_refl _) (fun _ _ => rfl), k4⟩
theorem DB_L {G : CG} {bE : Nat} {s0 s1 : Sg} {B o : Nat} {t : Sg} {N : Nat} {db ln : List (Nat × Nat × Nat)} {lst : List Nat} {kw : List Int} {f3 : Int} (h : DB G bE s0 s1 B o t N db ln lst kw f3) : DB G bE s0 s1 B o (zsR (zsI (znew t 6 0) (o + N) 200 0) (o + N) 201 (some bE)) (N + 1) db ln (N :: lst) kw f3 := by
  obtain ⟨⟨a1, a2, a3, ⟨a4, a5, ag⟩, a6, a7, a8, a9, a10, a11⟩, ⟨b1, b2, b3⟩, c, d, e, f1, f2⟩ := h
  obtain ⟨t', ht⟩ : ∃ t', t' = zsR (zsI (znew t 6 0) (o + N) 200 0) (o + N) 201 (some bE) := ⟨_, rfl⟩
  rw [← ht]
  have hs : ∀ q, q < o + N → sam t t' q := fun q hq => by rw [ht]; exact sam_zsR (sam_zsI (sam_znew sam_rf (by omega)) (by omega)) (by omega)
  have N' : zN t' = o + N + 1 := by rw [ht]; show zN t + 1 = _; omega
  have sb := sam_tr (a3 bE a7) (hs bE (by omega))
  refine ⟨⟨by omega, by omega, fun q hq => sam_tr (a3 q hq) (hs q (by omega)), ⟨by omega, fun q h1 h2 => sam_tr (a5 q h1 h2) (hs q (by omega)), ag.imp id (fun g => gro_tr g ⟨by omega, fun x hx => ⟨(hs x (by omega)).1, (hs x (by omega)).2.1⟩⟩)⟩, a6, a7, a8, a9, a10, a11⟩, ⟨by rw [(hs o (by omega)).1]; exact b1, fun j => by rw [(hs o (by omega)).2.2.1]; exact b2 j, by rw [(hs o (by omega)).2.1]; exact b3⟩, fun x hx => ?_, fun x hx => ?_, fun k hk => ?_, fun q => by have := f1 q; omega, fun i hi => ?_⟩
  · obtain ⟨k1, k2, k3, k4, k5, k6⟩ := c x hx
    have s := hs (o + x.1) (by omega)
    exact ⟨by omega, k2, by rw [s.1]; exact k3, by rw [s.2.1]; exact k4, fun j => by rw [s.2.2.1]; exact k5 j, fun q j => by rw [s.2.2.2.2.1]; exact k6 q j⟩
  · obtain ⟨k1, k2⟩ := d x hx
    exact ⟨by omega, by rw [(hs (o + x.1) (by omega)).2.2.2.1]; exact k2⟩
  · rcases List.mem_cons.mp hk with rfl | hk
    · refine ⟨by omega, by omega, ⟨?_, ?_, ?_, by rw [sb.1]; exact a9, by omega, by rw [sb.2.1, a10]; omega, by omega, by omega, fun i x hx => by rw [sb.2.2.2.2.2, a11] at hx; cases hx⟩, ⟨by show G0 G ≤ _; omega, fun _ => a8, fun q => by rw [sb.2.1, a10] at q; omega⟩⟩
      · rw [ht]; show zT (znew t 6 0) (o + k) = 6; rw [znew_T, if_pos a1.symm]
      · rw [ht, zsR_R, if_pos ⟨rfl, rfl⟩]
      · rw [ht, zsR_I, zsI_I, if_neg (fun q => absurd q.2 (by decide)), znew_I, if_pos a1.symm]; rfl
    · obtain ⟨k1, k2, k3, k4⟩ := e k hk
      have sb' := hs bE (by omega)
      exact ⟨by omega, k2, LA_sam k3 (hs _ (by omega)) sb' (by omega) (fun x hx => (hs x (by omega)).1), ⟨k4.1, fun q => k4.2.1 (by rw [← sb'.2.1]; exact q), fun q => k4.2.2 (by rw [← sb'.2.1]; exact q)⟩⟩
  · rw [(hs (o + 1) (by have := f1 (fun q => by rw [q] at hi; exact absurd hi (Nat.not_lt_zero _)); omega)).2.2.2.2.1]; exact f2 i hi
theorem DB_I {G : CG} {bE : Nat} {s0 s1 : Sg} {B o : Nat} {t : Sg} {N : Nat} {db ln : List (Nat × Nat × Nat)} {lst : List Nat} {kw : List Int} {f3 : Int} (h : DB G bE s0 s1 B o t N db ln lst kw f3) (v : Int) : DB G bE s0 s1 B o (zsI t o 3 v) N db ln lst kw v := by
  obtain ⟨⟨a1, a2, a3, ⟨a4, a5, ag⟩, a6⟩, ⟨b1, b2, b3⟩, c, d, e, f1, f2⟩ := h
  have hs : ∀ q, q ≠ o → sam t (zsI t o 3 v) q := fun q hq => sam_zsI sam_rf hq
  refine ⟨⟨a1, a2, fun q hq => sam_tr (a3 q hq) (hs q (by omega)), ⟨a4, fun q h1 h2 => sam_tr (a5 q h1 h2) (hs q h2), ag.imp id (fun g => gro_tr g ⟨Nat.le_refl _, fun _ _ => ⟨rfl, rfl⟩⟩)⟩, a6⟩, ⟨b1, fun j => ?_, b3⟩, fun x hx => ?_, d, fun j hj => ?_, f1, f2⟩
  · rw [zsI_I]
    by_cases z : j = 3
    · rw [if_pos ⟨rfl, z⟩, if_pos z]
    · rw [if_neg (fun q => z q.2), if_neg z, b2, if_neg z]
  · obtain ⟨k1, k2, k3, k4, k5, k6⟩ := c x hx
    have s := hs (o + x.1) (by omega)
    exact ⟨k1, k2, k3, k4, fun j => by rw [s.2.2.1]; exact k5 j, k6⟩
  · obtain ⟨k1, k2, k3, k4⟩ := e j hj
    exact ⟨k1, k2, LA_sam k3 (hs _ (by omega)) (hs bE (by omega)) (Nat.le_refl _) (fun _ _ => rfl), k4⟩
theorem DB_k {G : CG} {bE : Nat} {s0 s1 : Sg} {B o : Nat} {t : Sg} {N : Nat} {db ln : List (Nat × Nat × Nat)} {lst : List Nat} {kw : List Int} {f3 : Int} (h : DB G bE s0 s1 B o t N db ln lst kw f3) (hB : B = 0) (hN : 2 ≤ N) (hl : 1 ∉ lst) (v : Int) : DB G bE s0 s1 B o (zsA t (o + 1) kw.length v) N db ln lst (kw ++ [v]) f3 := by
  obtain ⟨⟨a1, a2, a3, ⟨a4, a5, ag⟩, a6⟩, ⟨b1, b2, b3⟩, c, d, e, f1, f2⟩ := h
  have hs : ∀ q, q ≠ o + 1 → sam t (zsA t (o + 1) kw.length v) q := fun q hq => sam_zsA sam_rf hq
  refine ⟨⟨a1, a2, fun q hq => sam_tr (a3 q hq) (hs q (by omega)), ⟨a4, fun q h1 h2 => by omega, Or.inl hB⟩, a6⟩, ⟨b1, b2, b3⟩, fun x hx => ?_, d, fun j hj => ?_, fun _ => hN, fun i hi => ?_⟩
  · obtain ⟨k1, k2, k3, k4, k5, k6⟩ := c x hx
    refine ⟨k1, k2, k3, k4, k5, fun q j => ?_⟩
    rw [(hs (o + x.1) (by omega)).2.2.2.2.1]; exact k6 q j
  · obtain ⟨k1, k2, k3, k4⟩ := e j hj
    have : j ≠ 1 := fun q => hl (by rw [← q]; exact hj)
    exact ⟨k1, k2, LA_sam k3 (hs _ (by omega)) (hs bE (by omega)) (Nat.le_refl _) (fun _ _ => rfl), k4⟩
  · rw [List.length_append, List.length_singleton] at hi
    rw [zsA_A]
    by_cases z : i < kw.length
    · rw [List.getElem?_append_left z, if_neg (by omega)]; exact f2 i z
    · have e : i = kw.length := by omega
      subst e
      rw [List.getElem?_append_right (Nat.le_refl _), Nat.sub_self, if_pos ⟨rfl, rfl⟩]; rfl
/-! the steps -/
theorem okU_nA2 {α : Type} {s : Sg} {T C S : Nat} {i : Int} {k : Nat × Sg → Option (α × Nat × Nat)} {P : α → Prop} (n : Nat) (hi : i = n) (hn : n ≤ 100000) (hC : 1 ≤ C) (hS : n ≤ S) (kk : okU (k (zN s, znew s (100 + T) n)) (C - 1) (S - n) P) : okU (bdU (zNewA s T i) k) C S P :=
  okU_bdU (C1 := 1) (S1 := n) (Q := fun q => q = (zN s, znew s (100 + T) n)) ⟨_, zNewA_e n hi hn, rfl, Nat.le_refl _, Nat.le_refl _⟩ hC hS (fun q hq => by rw [hq]; exact kk)
/-- a new array comes into the field g of the cell o + p -/
theorem sAr {α : Type} {G : CG} {bE : Nat} {s0 s1 : Sg} {B o : Nat} {t : Sg} {N : Nat} {db ln : List (Nat × Nat × Nat)} {lst : List Nat} {kw : List Int} {f3 : Int} (h : DB G bE s0 s1 B o t N db ln lst kw f3) {T C S p g ct : Nat} {i : Int} {K : Sg → Option (α × Nat × Nat)} {P : α → Prop} (n : Nat) (hi : i = n) (hn : n ≤ 100000) (hC : 1 ≤ C) (hS : n ≤ S) (hp : p < N) (hct : zT t (o + p) = ct) (hB : p = 0 ∨ B = 0) (hf : ∀ x ∈ ln, ¬ (x.1 = p ∧ x.2.1 = g)) (hl : p ∉ lst) (kk : ∀ u, DB G bE s0 s1 B o u (N + 1) ((N, 100 + T, n) :: db) ((p, g, N) :: ln) lst kw f3 → okU (K u) (C - 1) (S - n) P) : okU (bdU (zNewA t T i) fun q => (pfR G.2.2.2.1 q.2 ct g (some (o + p)) (some q.1)).bind fun u => K u) C S P := by
  have hN : zN t = o + N := h.1.1
  have hG : G0 G ≤ o := h.1.2.2.2.2.1
  refine okU_nA2 n hi hn hC hS ?_
  dsimp only
  rw [pfR_e (by rw [znew_T, if_neg (by omega)]; exact hct) (by show G0 G ≤ _; omega), Option.bind_some, hN]
  exact kk _ (DB_R (DB_new h (100 + T) n) p g N (by omega) hB hf hl)
/-- a new empty list comes into the field g of the cell o + p -/
theorem sLr {α : Type} {G : CG} {bE : Nat} {s0 s1 : Sg} {B o : Nat} {t : Sg} {N : Nat} {db ln : List (Nat × Nat × Nat)} {lst : List Nat} {kw : List Int} {f3 : Int} (h : DB G bE s0 s1 B o t N db ln lst kw f3) {C S p g ct : Nat} {K : Sg → Option (α × Nat × Nat)} {P : α → Prop} (hC : 1 ≤ C) (hS : 3 ≤ S) (hp : p < N) (hct : zT t (o + p) = ct) (hB : p = 0 ∨ B = 0) (hf : ∀ x ∈ ln, ¬ (x.1 = p ∧ x.2.1 = g)) (hl : p ∉ lst) (kk : ∀ u, DB G bE s0 s1 B o u (N + 1) db ((p, g, N) :: ln) (N :: lst) kw f3 → okU (K u) (C - 1) (S - 3) P) : okU (bdU (zNew t 6 3) fun q => (fJ2_init G (some q.1) q.2).bind fun u1 => (pfR G.2.2.2.1 u1 ct g (some (o + p)) (some q.1)).bind fun u => K u) C S P := by
  have hN : zN t = o + N := h.1.1
  have hG : G0 G ≤ o := h.1.2.2.2.2.1
  have h6 : GS G 6 = some bE := h.1.2.2.2.2.2.2.1
  refine okU_new hC hS ?_
  dsimp only
  rw [J_init (by rw [znew_T, if_pos rfl]) (by show G0 G ≤ zN t; omega) h6, Option.bind_some, hN]
  have T1 : zT (zsR (zsI (znew t 6 0) (o + N) 200 0) (o + N) 201 (some bE)) (o + p) = ct := by
    show zT (znew t 6 0) (o + p) = ct
    rw [znew_T, if_neg (by omega)]; exact hct
  rw [pfR_e T1 (by show G0 G ≤ _; omega), Option.bind_some]
  exact kk _ (DB_R (DB_L h) p g N (by omega) hB hf (fun q => by
    rcases List.mem_cons.mp q with e | e
    · omega
    · exact hl e))
/-- a word -/
theorem sKr {α : Type} {G : CG} {bE : Nat} {s0 s1 : Sg} {o : Nat} {t : Sg} {db ln : List (Nat × Nat × Nat)} {lst : List Nat} {kw : List Int} {f3 : Int} (h : DB G bE s0 s1 0 o t 2 ((1, 104, 29) :: db) ln lst kw f3) {C S : Nat} {v i : Int} {a : Nat} {K : Sg → Option (α × Nat × Nat)} {P : α → Prop} (ha : a = o + 1) (hi : i = (kw.length : Int)) (h29 : kw.length < 29) (hl : 1 ∉ lst) (kk : ∀ u, DB G bE s0 s1 0 o u 2 ((1, 104, 29) :: db) ln lst (kw ++ [v]) f3 → okU (K u) C S P) : okU ((asI G.2.2.2.1 t 4 (some a) i v).bind fun u => K u) C S P := by
  have hG : G0 G ≤ o := h.1.2.2.2.2.1
  obtain ⟨-, -, k1, k2, -⟩ := h.2.2.1 (1, 104, 29) (List.mem_cons_self ..)
  subst ha
  rw [asI_e kw.length k1 (by show G0 G ≤ _; omega) hi (by rw [k2]; exact h29) (by rw [k2]; decide), Option.bind_some]
  exact kk _ (DB_k h rfl (Nat.le_refl _) hl v)
