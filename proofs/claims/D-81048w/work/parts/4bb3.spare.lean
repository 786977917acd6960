/-! THE CONSTRUCTOR of the class: the row of Starts -/
theorem J_grow0 {G : CG} {u : Sg} {a b : Nat} (h : LA u a b 0) (hw : LW G u a b) (hz : zL u b = 0) : fJ2_grow_2 G (some a) (1 : Int) u = some ((some (zN u), growTo u a 10 (fun _ => none)), 1, 10) := by
  obtain ⟨q1, q2, q3, q4, q5, q6, q7, q8, q9⟩ := h
  have ha : a ≠ zN u := by omega
  unfold fJ2_grow_2
  rw [gfR_v q1 q2, Option.bind_some]
  rw [alen_e q4, Option.bind_some]
  rw [if_neg (by rw [w32_n (by omega)]; omega), Option.bind_some]
  rw [if_pos (hw.2.1 hz).symm, show mx32 10 1 = ((10 : Nat) : Int) from rfl, zNewQ_e 10 rfl (by omega), bdU_e]
  rw [pfR_e (by show (if a = zN u then 105 else zT u a) = 6; rw [if_neg ha]; exact q1) hw.1]
  have e9 : zsC (znew u 105 10) (zN u) (fun _ => none) = znew u 105 10 := by
    have := zsC_same (s := znew u 105 10) (a := zN u)
    rw [znew_B, if_pos rfl] at this
    exact this
  unfold growTo
  rw [e9]
  simp
theorem J_add0 {G : CG} {u : Sg} {a b x : Nat} (h : LA u a b 0) (hw : LW G u a b) (hz : zL u b = 0) (hG : G0 G ≤ zN u) (hx : zT u x ∈ OT ∧ x < zN u) : ∃ t, fJ2_add G (some a) (some x) u = some ((1, t), 1, 10) ∧ LA t a (zN u) 1 ∧ LW G t a (zN u) ∧ zL t (zN u) = 10 ∧ zB t (zN u) 0 = some x ∧ gro u t ∧ zN t = zN u + 1 ∧ ∀ q, q < zN u → q ≠ a → sam u t q := by
  have hl : LA (zsI u a 200 (zI u a 200 + 1)) a b 0 := by
    obtain ⟨q1, q2, q3, q4, q5, q6, q7, q8, q9⟩ := h
    exact ⟨q1, q2, by rw [zsI_I, if_neg (fun q => by simp at q)]; exact q3, q4, q5, q6, q7, q8, q9⟩
  obtain ⟨u1, hu1⟩ : ∃ u1, u1 = zsI u a 200 (zI u a 200 + 1) := ⟨_, rfl⟩
  rw [← hu1] at hl
  have N1 : zN u1 = zN u := by rw [hu1]; rfl
  have hw1 : LW G u1 a b := by rw [hu1]; exact hw
  have hz1 : zL u1 b = 0 := by rw [hu1]; exact hz
  have e1 := J_grow0 hl hw1 hz1
  obtain ⟨g1, g2, g3, g4, g5, g6, g7⟩ := growTo_ok (L := 10) (f := fun _ => none) hl (fun i hi => absurd hi (Nat.not_lt_zero _)) (fun i x hx => by cases hx) (Nat.zero_le _) (by decide)
  generalize hU : growTo u1 a 10 (fun _ => none) = U at *
  rw [N1] at g1 g2 g3 g4 g5
  obtain ⟨e2, e3⟩ := J_add11 (G := G) (v := some x) g1 (by show G0 G ≤ zN u; exact hG) hw.1 (by rw [g2]; decide) (fun y hy => by
    cases hy
    obtain ⟨p, q⟩ := hx
    exact ⟨by rw [(g7.2 x (by omega)).1, hu1]; exact p, by omega⟩)
  obtain ⟨a1, a2, a3, a4, a5, a6, a7, a8⟩ := e3
  have s01 : ∀ q, q ≠ a → sam u u1 q := fun q hq => by rw [hu1]; exact sam_zsI sam_rf hq
  refine ⟨_, ?_, a1, a2, g2, a4, ?_, g4, fun q q1 q2 => sam_tr (s01 q q2) (sam_tr (g5 q q2 (by omega)) (a8 q q2 (by omega)))⟩
  · unfold fJ2_add
    rw [gfI_e h.1, Option.bind_some, pfI_e h.1 hw.1, Option.bind_some, ← hu1, gfR_v hl.1 hl.2.1, Option.bind_some, gfI_v hl.1 hl.2.2.1, Option.bind_some, ztg_e hl.1, Option.bind_some]
    unfold fJ2_add_2
    rw [alen_e hl.2.2.2.1, Option.bind_some, hz1, if_pos (by rfl), ztg_e hl.1, Option.bind_some]
    have e4 : fJ2_grow G (some a) u1 = some ((some (zN u), U), 1, 10) := by
      unfold fJ2_grow
      rw [gfI_v hl.1 hl.2.2.1, Option.bind_some, ztg_e hl.1, Option.bind_some, show (((0 : Nat) : Int) + 1) = 1 from rfl, e1, bdU_e, N1]
      simp
    rw [e4, bdU_e]
    dsimp only
    rw [e2]
    rfl
  · have g01 : gro u u1 := ⟨by omega, fun y _ => ⟨by rw [hu1]; rfl, by rw [hu1]; rfl⟩⟩
    exact gro_tr g01 (gro_tr g7 ⟨Nat.le_refl _, fun y _ => ⟨rfl, rfl⟩⟩)
theorem J_addR {G : CG} {u : Sg} {a b n x : Nat} (h : LA u a b n) (hw : LW G u a b) (hn : n < zL u b) (hx : zT u x ∈ OT ∧ x < zN u) : ∃ t, fJ2_add G (some a) (some x) u = some ((1, t), 0, 0) ∧ LA t a b (n + 1) ∧ LW G t a b ∧ zL t b = zL u b ∧ (∀ i, i < n → zB t b i = zB u b i) ∧ zB t b n = some x ∧ gro u t ∧ zN t = zN u ∧ ∀ q, q ≠ a → q ≠ b → sam u t q := by
  have hl : LA (zsI u a 200 (zI u a 200 + 1)) a b n := by
    obtain ⟨q1, q2, q3, q4, q5, q6, q7, q8, q9⟩ := h
    exact ⟨q1, q2, by rw [zsI_I, if_neg (fun q => by simp at q)]; exact q3, q4, q5, q6, q7, q8, q9⟩
  obtain ⟨u1, hu1⟩ : ∃ u1, u1 = zsI u a 200 (zI u a 200 + 1) := ⟨_, rfl⟩
  rw [← hu1] at hl
  obtain ⟨e2, e3⟩ := J_add11 (G := G) (v := some x) hl (hw.2.2 (by omega)) hw.1 (by rw [hu1]; exact hn) (fun y hy => by cases hy; rw [hu1]; exact hx)
  obtain ⟨a1, a2, a3, a4, a5, a6, a7, a8⟩ := e3
  have s01 : ∀ q, q ≠ a → sam u u1 q := fun q hq => by rw [hu1]; exact sam_zsI sam_rf hq
  refine ⟨_, ?_, a1, a2, by rw [hu1]; rfl, fun i hi => by rw [a3 i hi, hu1]; rfl, a4, ?_, by rw [hu1]; rfl, fun q q1 q2 => sam_tr (s01 q q1) (a8 q q1 q2)⟩
  · unfold fJ2_add
    rw [gfI_e h.1, Option.bind_some, pfI_e h.1 hw.1, Option.bind_some, ← hu1, gfR_v hl.1 hl.2.1, Option.bind_some, gfI_v hl.1 hl.2.2.1, Option.bind_some, ztg_e hl.1, Option.bind_some]
    unfold fJ2_add_2
    have hL := hl.2.2.2.2.2.1
    have z1 : zL u1 b = zL u b := by rw [hu1]; rfl
    rw [alen_e hl.2.2.2.1, Option.bind_some, if_neg (by rw [w32_n (by omega), w32_n (by omega)]; omega), e2, bdU_e]
    rfl
  · exact ⟨by rw [hu1]; exact Nat.le_refl _, fun y _ => ⟨by rw [hu1]; rfl, by rw [hu1]; rfl⟩⟩
/-- the list of spare Starts, with f of them -/
def SPR (G : CG) (o : Nat) (t : Sg) (f : Nat) : Prop := LA t (o + 19) (o + 25) f ∧ LW G t (o + 19) (o + 25) ∧ zL t (o + 25) = 10 ∧ ∀ i, i < f → zB t (o + 25) i = some (o + (if i = 0 then 23 else 24 + 2 * i))
theorem DB_x {G : CG} {bE : Nat} {s0 s1 : Sg} {B o : Nat} {t t' : Sg} {N N' x x2 : Nat} {db ln : List (Nat × Nat × Nat)} {lst : List Nat} {kw : List Int} {f3 : Int} (h : DB G bE s0 s1 B o t N db ln lst kw f3) (hB : B = 0) (hx : (x ≠ 0 ∧ x ≠ 1) ∧ x2 ≠ 0 ∧ x2 ≠ 1) (hN : zN t' = o + N') (hle : N ≤ N') (hg : gro t t') (hs : ∀ q, q < o + N → q ≠ o + x → q ≠ o + x2 → sam t t' q) (h1 : ∀ y ∈ db, y.1 ≠ x ∧ y.1 ≠ x2) (h2 : ∀ y ∈ ln, y.1 ≠ x ∧ y.1 ≠ x2) (h3 : x ∉ lst ∧ x2 ∉ lst) : DB G bE s0 s1 B o t' N' db ln lst kw f3 := by
  obtain ⟨⟨a1, a2, a3, ⟨a4, a5, ag⟩, a6, a7, a8⟩, ⟨b1, b2, b3⟩, c, d, e, f1, f2⟩ := h
  refine ⟨⟨hN, by omega, fun q hq => sam_tr (a3 q hq) (hs q (by omega) (by omega) (by omega)), ⟨by omega, fun q q1 _ => by omega, Or.inl hB⟩, a6, a7, a8⟩, ⟨by rw [(hs o (by omega) (by omega) (by omega)).1]; exact b1, fun j => by rw [(hs o (by omega) (by omega) (by omega)).2.2.1]; exact b2 j, by rw [(hs o (by omega) (by omega) (by omega)).2.1]; exact b3⟩, fun y hy => ?_, fun y hy => ?_, fun k hk => ?_, fun q => by have := f1 q; omega, fun i hi => ?_⟩
  · obtain ⟨k1, k2, k3, k4, k5, k6⟩ := c y hy
    have s := hs (o + y.1) (by omega) (by have := h1 y hy; omega) (by have := h1 y hy; omega)
    exact ⟨by omega, k2, by rw [s.1]; exact k3, by rw [s.2.1]; exact k4, fun j => by rw [s.2.2.1]; exact k5 j, fun q j => by rw [s.2.2.2.2.1]; exact k6 q j⟩
  · obtain ⟨k1, k2⟩ := d y hy
    exact ⟨by omega, by rw [(hs (o + y.1) (by omega) (by have := h2 y hy; omega) (by have := h2 y hy; omega)).2.2.2.1]; exact k2⟩
  · obtain ⟨k1, k2, k3, k4⟩ := e k hk
    have hkx : k ≠ x := fun q => h3.1 (by rw [← q]; exact hk)
    have hkx2 : k ≠ x2 := fun q => h3.2 (by rw [← q]; exact hk)
    have sb := hs bE (by omega) (by omega) (by omega)
    exact ⟨by omega, k2, LA_sam k3 (hs _ (by omega) (by omega) (by omega)) sb hg.1 (fun y hy => (hg.2 y hy).1), ⟨k4.1, fun q => k4.2.1 (by rw [← sb.2.1]; exact q), fun q => k4.2.2 (by rw [← sb.2.1]; exact q)⟩⟩
  · have hh : 2 ≤ N := f1 (fun q => by rw [q] at hi; exact absurd hi (Nat.not_lt_zero _))
    rw [(hs (o + 1) (by omega) (by omega) (by omega)).2.2.2.2.1]; exact f2 i hi
/-- lists may be forgotten -/
theorem DB_s {G : CG} {bE : Nat} {s0 s1 : Sg} {B o : Nat} {t : Sg} {N : Nat} {db ln : List (Nat × Nat × Nat)} {lst lst' : List Nat} {kw : List Int} {f3 : Int} (h : DB G bE s0 s1 B o t N db ln lst kw f3) (hl : ∀ k ∈ lst', k ∈ lst) : DB G bE s0 s1 B o t N db ln lst' kw f3 := by
  obtain ⟨a, b, c, d, e, f⟩ := h
  exact ⟨a, b, c, d, fun k hk => e k (hl k hk), f⟩
theorem SPR_k {G : CG} {o : Nat} {t t' : Sg} {f : Nat} (h : SPR G o t f) (hg : gro t t') (h1 : sam t t' (o + 19)) (h2 : sam t t' (o + 25)) : SPR G o t' f := by
  obtain ⟨a, b, c, d⟩ := h
  exact ⟨LA_sam a h1 h2 hg.1 (fun x hx => (hg.2 x hx).1), ⟨b.1, fun q => b.2.1 (by rw [← h2.2.1]; exact q), fun q => b.2.2 (by rw [← h2.2.1]; exact q)⟩, by rw [h2.2.1]; exact c, fun i hi => by rw [h2.2.2.2.2.2]; exact d i hi⟩
/-- a Starts with its row -/
theorem sNS {α : Type} {G : CG} {bE : Nat} {s0 s1 : Sg} {o : Nat} {t : Sg} {N : Nat} {db ln : List (Nat × Nat × Nat)} {lst : List Nat} {kw : List Int} {f3 : Int} (h : DB G bE s0 s1 0 o t N db ln lst kw f3) {C S : Nat} {K : Nat × Sg → Sg → Option (α × Nat × Nat)} {P : α → Prop} (hC : 2 ≤ C) (hS : 1223 ≤ S) (hf : ∀ x ∈ ln, ¬ (x.1 = N ∧ x.2.1 = 160)) (hl : N ∉ lst) (kk : ∀ u, DB G bE s0 s1 0 o u (N + 2) ((N + 1, 101, 1220) :: (N, 5, 0) :: db) ((N, 160, N + 1) :: ln) lst kw f3 → gro t u → (∀ q, q < o + N → sam t u q) → okU (K (o + N, znew t 5 0) u) (C - 2) (S - 1223) P) : okU (bdU (zNew t 5 3) fun q2 => bdU (f4_init G (some q2.1) 1220 q2.2) fun q3 => K q2 q3) C S P := by
  have hN : zN t = o + N := h.1.1
  have hG : G0 G ≤ o := h.1.2.2.2.2.1
  refine okU_new (by omega) (by omega) ?_
  dsimp only
  rw [hN]
  have D1 := DB_new h 5 0
  unfold f4_init
  rw [Option.bind_some]
  have D2 := DB_new D1 101 1220
  have D3 := DB_R D2 N 160 (N + 1) (by omega) (Or.inr rfl) hf hl
  have N1 : zN (znew t 5 0) = o + (N + 1) := D1.1.1
  have e : bdU (zNewA (znew t 5 0) 1 1220) (fun q2 => (pfR G.2.2.2.1 q2.2 5 160 (some (o + N)) (some q2.1)).bind fun u3 => some (u3, 0, 0)) = some (zsR (znew (znew t 5 0) 101 1220) (o + N) 160 (some (o + (N + 1))), 1, 1220) := by
    rw [zNewA_e (i := 1220) 1220 rfl (by omega), bdU_e]
    dsimp only
    rw [pfR_e (by rw [znew_T, if_neg (by omega), znew_T, if_pos hN.symm]) (by show G0 G ≤ _; omega), Option.bind_some, N1]
    rfl
  rw [e, bdU_e]
  have := kk _ D3 ⟨by show zN t ≤ zN t + 1 + 1; omega, fun x hx => ⟨by show zT (znew (znew t 5 0) 101 1220) x = _; rw [znew_T, if_neg (by omega), znew_T, if_neg (by omega)], by show zL (znew (znew t 5 0) 101 1220) x = _; rw [znew_L, if_neg (by omega), znew_L, if_neg (by omega)]⟩⟩ (fun q hq => sam_zsR (sam_znew (sam_znew sam_rf (by omega)) (by omega)) (by omega))
  obtain ⟨⟨r, c, n⟩, e1, p1, p2, p3⟩ := this
  dsimp only at p2 p3
  refine ⟨(r, c + 1, n + 1220), by rw [e1]; rfl, p1, ?_, ?_⟩
  · show c + 1 ≤ C - 1; omega
  · show n + 1220 ≤ S - 3; omega
/-- the first Starts comes to the list -/
theorem s45z {G : CG} {bE : Nat} {s0 s1 : Sg} {o : Nat} {t : Sg} {db ln : List (Nat × Nat × Nat)} {lst : List Nat} {kw : List Int} {f3 : Int} (h : DB G bE s0 s1 0 o t 23 db ln (19 :: lst) kw f3) {C S fu : Nat} {P : Sg → Prop} (hC : 3 ≤ C) (hS : 1233 ≤ S) (h18 : (18, 120, 19) ∈ ln) (h18' : (18, 4, 0) ∈ db) (hf : ∀ x ∈ ln, ¬ (x.1 = 23 ∧ x.2.1 = 160)) (hl : 23 ∉ 19 :: lst) (q1 : ∀ y ∈ (24, 101, 1220) :: (23, 5, 0) :: db, y.1 ≠ 19 ∧ y.1 ≠ 19) (q2 : ∀ y ∈ (23, 160, 24) :: ln, y.1 ≠ 19 ∧ y.1 ≠ 19) (q3 : 19 ∉ lst ∧ 19 ∉ lst) (kk : ∀ u, DB G bE s0 s1 0 o u 26 ((24, 101, 1220) :: (23, 5, 0) :: db) ((23, 160, 24) :: ln) lst kw f3 → SPR G o u 1 → okU (f3_init_l45 G (some (o + 18)) fu 1 u) (C - 3) (S - 1233) P) : okU (f3_init_l45 G (some (o + 18)) (fu + 1) 0 t) C S P := by
  have hT18 := (h.2.2.1 _ h18').2.2.1
  have hR18 := (h.2.2.2.1 _ h18).2
  dsimp only at hT18 hR18
  rw [f3_init_l45.eq_2, if_neg (by decide), gfR_v hT18 hR18, Option.bind_some]
  refine sNS h (by omega) (by omega) hf hl (fun u D g sF => ?_)
  obtain ⟨-, -, la, lw⟩ := D.2.2.2.2.1 19 (List.mem_cons_self ..)
  obtain ⟨-, -, tS, -⟩ := D.2.2.1 (23, 5, 0) (by simp)
  dsimp only at tS
  have hN := D.1.1
  have hb := D.1.2.2.1 bE D.1.2.2.2.2.2.1
  have hz : zL u bE = 0 := by rw [hb.2.1]; exact D.1.2.2.2.2.2.2.2.2.1
  have hG : G0 G ≤ o := D.1.2.2.2.2.1
  obtain ⟨t2, e, k1, k2, k3, k4, k5, k6, k7⟩ := J_add0 (x := o + 23) la lw hz (by omega) ⟨by rw [tS]; decide, by omega⟩
  dsimp only
  rw [ztg_e la.1, Option.bind_some, e, bdU_e]
  rw [hN] at k1 k2 k3 k4 k6 k7
  have D2 : DB G bE s0 s1 0 o t2 26 ((24, 101, 1220) :: (23, 5, 0) :: db) ((23, 160, 24) :: ln) lst kw f3 := DB_x (x := 19) (x2 := 19) (DB_s D (lst' := lst) (fun k hk => List.mem_cons_of_mem _ hk)) rfl (by decide) (by omega) (by omega) k5 (fun q h1 h2 _ => k7 q (by omega) h2) q1 q2 q3
  obtain ⟨⟨r, c, n⟩, e1, p1, p2, p3⟩ := kk t2 D2 ⟨k1, k2, k3, fun i hi => by rw [show i = 0 by omega, if_pos rfl]; exact k4⟩
  dsimp only at p2 p3
  have e1 : f3_init_l45 G (some (o + 18)) fu (0 + 1) t2 = some (r, c, n) := e1
  refine ⟨(r, c + 1, n + 10), by dsimp only; rw [e1]; rfl, p1, ?_, ?_⟩
  · show c + 1 ≤ C - 2; omega
  · show n + 10 ≤ S - 1223; omega
/-- the others -/
theorem s45i {G : CG} {bE : Nat} {s0 s1 : Sg} {o : Nat} {t : Sg} {f : Nat} {db ln : List (Nat × Nat × Nat)} {lst : List Nat} {kw : List Int} {f3 : Int} (N : Nat) (h : DB G bE s0 s1 0 o t N db ln lst kw f3) (hSP : SPR G o t f) {C S fu : Nat} {P : Sg → Prop} (hN24 : N = 24 + 2 * f) (hf8 : 1 ≤ f ∧ f < 8) (hC : 2 ≤ C) (hS : 1223 ≤ S) (h18 : (18, 120, 19) ∈ ln) (h18' : (18, 4, 0) ∈ db) (hf : ∀ x ∈ ln, ¬ (x.1 = N ∧ x.2.1 = 160)) (hl : N ∉ lst) (q1 : ∀ y ∈ (N + 1, 101, 1220) :: (N, 5, 0) :: db, y.1 ≠ 19 ∧ y.1 ≠ 25) (q2 : ∀ y ∈ (N, 160, N + 1) :: ln, y.1 ≠ 19 ∧ y.1 ≠ 25) (q3 : 19 ∉ lst ∧ 25 ∉ lst) (kk : ∀ u, DB G bE s0 s1 0 o u (N + 2) ((N + 1, 101, 1220) :: (N, 5, 0) :: db) ((N, 160, N + 1) :: ln) lst kw f3 → SPR G o u (f + 1) → okU (f3_init_l45 G (some (o + 18)) fu ((f + 1 : Nat) : Int) u) (C - 2) (S - 1223) P) : okU (f3_init_l45 G (some (o + 18)) (fu + 1) (f : Int) t) C S P := by
  have hT18 := (h.2.2.1 _ h18').2.2.1
  have hR18 := (h.2.2.2.1 _ h18).2
  dsimp only at hT18 hR18
  rw [f3_init_l45.eq_2, if_neg (by rw [w32_n (by omega)]; omega), gfR_v hT18 hR18, Option.bind_some]
  refine sNS h hC hS hf hl (fun u D g sF => ?_)
  have SP1 := SPR_k hSP g (sF _ (by omega)) (sF _ (by omega))
  obtain ⟨-, -, tS, -⟩ := D.2.2.1 (N, 5, 0) (by simp)
  dsimp only at tS
  have hN := D.1.1
  obtain ⟨t2, e, k1, k2, k3, k4, k5, k6, k7, k8⟩ := J_addR (x := o + N) SP1.1 SP1.2.1 (by rw [SP1.2.2.1]; omega) ⟨by rw [tS]; decide, by omega⟩
  dsimp only
  rw [ztg_e SP1.1.1, Option.bind_some, e, bdU_z]
  have D2 : DB G bE s0 s1 0 o t2 (N + 2) ((N + 1, 101, 1220) :: (N, 5, 0) :: db) ((N, 160, N + 1) :: ln) lst kw f3 := DB_x (x := 19) (x2 := 25) D rfl (by decide) (by omega) (Nat.le_refl _) k6 (fun q _ h2 h3 => k8 q h2 h3) q1 q2 q3
  have := kk t2 D2 ⟨k1, k2, by rw [k3]; exact SP1.2.2.1, fun i hi => by
    by_cases z : i < f
    · rw [k4 i z]; exact SP1.2.2.2 i z
    · rw [show i = f by omega, k5, if_neg (by omega), hN24]⟩
  exact this
