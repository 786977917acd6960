/-! THE READER: the end: all answers of a new wording -/
/-- the answers' arrays d, e, n long -/
def DE (G : CG) (L : Ly) (u : Sg) (d e n : Nat) : Prop := (L.2 d = 145 ∧ L.2 e = 145 ∧ d ≠ e) ∧ (zT u d = 102 ∧ zL u d = n ∧ G0 G ≤ d) ∧ (zT u e = 102 ∧ zL u e = n ∧ G0 G ≤ e)
/-- since u only the facts' values, the meanings' truths, and the answers -/
def afr (L : Ly) (d e : Nat) (u t : Sg) : Prop := (zT t = zT u ∧ zL t = zL u ∧ zI t = zI u ∧ zR t = zR u ∧ zB t = zB u ∧ zN t = zN u) ∧ ∀ a, a ≠ L.1 140 → a ≠ L.1 141 → a ≠ d → a ≠ e → zA t a = zA u a
theorem afr_rf {L : Ly} {d e : Nat} {u : Sg} : afr L d e u u := ⟨⟨rfl, rfl, rfl, rfl, rfl, rfl⟩, fun _ _ _ _ _ => rfl⟩
theorem afr_tr {L : Ly} {d e : Nat} {u v w : Sg} (h : afr L d e u v) (k : afr L d e v w) : afr L d e u w := ⟨⟨k.1.1.trans h.1.1, k.1.2.1.trans h.1.2.1, k.1.2.2.1.trans h.1.2.2.1, k.1.2.2.2.1.trans h.1.2.2.2.1, k.1.2.2.2.2.1.trans h.1.2.2.2.2.1, k.1.2.2.2.2.2.trans h.1.2.2.2.2.2⟩, fun a h1 h2 h3 h4 => (k.2 a h1 h2 h3 h4).trans (h.2 a h1 h2 h3 h4)⟩
theorem afr_Z {L : Ly} {d e x : Nat} {u v : Sg} (hx : x = L.1 140 ∨ x = L.1 141 ∨ x = d ∨ x = e) (h : sZA x u v) : afr L d e u v := ⟨h.1, fun a h1 h2 h3 h4 => h.2 a (by rintro rfl; rcases hx with z | z | z | z <;> contradiction)⟩
theorem afr_scr {G : CG} {L : Ly} {d e n : Nat} {u0 u t : Sg} (hR : Rt G u0 L) (hD : DE G L u0 d e n) (h : afr L d e u t) : scr L u t := ⟨h.1.1, h.1.2.1, h.1.2.2.2.2.1, h.1.2.2.2.2.2, fun a g _ _ => by rw [h.1.2.2.2.1], fun a ha => ⟨h.2 a (fun q => ha (by rw [q, rC140 hR]; decide)) (fun q => ha (by rw [q, rC141 hR]; decide)) (fun q => ha (by rw [q, hD.1.1]; decide)) (fun q => ha (by rw [q, hD.1.2.1]; decide)), fun g _ => by rw [h.1.2.2.1]⟩⟩
theorem DE_k {G : CG} {L : Ly} {d e n : Nat} {u t : Sg} (h : DE G L u d e n) (k : afr L d e u t) : DE G L t d e n := by
  unfold DE; rw [k.1.1, k.1.2.1]; exact h
theorem or_b {x y : Bool} : or32 (b2i x) (b2i y) = b2i (x || y) := by
  have key : ∀ x y : Bool, or32 (b2i x) (b2i y) = b2i (x || y) := by
    intro x y
    cases x <;> cases y
    · exact or32_n (a := 0) (b := 0) (by omega) (by omega)
    · exact or32_n (a := 0) (b := 1) (by omega) (by omega)
    · exact or32_n (a := 1) (b := 0) (by omega) (by omega)
    · exact or32_n (a := 1) (b := 1) (by omega) (by omega)
  exact key x y
/-- the clauses of one cell -/
theorem c_46 {G : CG} {L : Ly} {u : Sg} {m : Mu} (h : RC G L u m) {W : Wv} {wa d e N n : Nat} {v : Nat → Int} (hM : WM W) (hA : WQ G L u wa W) (hD : DE G L u d e N) (h252 : zR u wa 252 = some d) (h253 : zR u wa 253 = some e) (hn : n < N) (hN : N ≤ 2000) (hv : ∀ f, f < nF W → zA u (L.1 140) f = v f ∧ w32 (v f) = v f) (hm : ∀ k, k < nM W → zA u (L.1 141) k = mnO W v k) (h0 : zA u d n = 0 ∧ zA u e n = 0) : ∃ u', f6_answerAll_l46 G (some wa) (some (L.1 113)) n NN 0 0 u = some (u', 0, 0) ∧ afr L d e u u' ∧ (∀ x, x ≠ n → zA u' d x = zA u d x ∧ zA u' e x = zA u e x) ∧ zA u' d n = b2i (ansO W v) ∧ zA u' e n = decO W v := by
  have hM1 := hM.1
  have hR := h.1
  have e19 : W 19 0 = (nM W : Int) := by unfold nM; omega
  have e23 : W 23 0 = (nC W : Int) := by unfold nC; omega
  obtain ⟨⟨D1, D2, D3⟩, ⟨D4, D5, D6⟩, ⟨D7, D8, D9⟩⟩ := id hD
  have nd1 : L.1 140 ≠ d := fun q => by have := rC140 hR; rw [q, D1] at this; omega
  have nd2 : L.1 141 ≠ d := fun q => by have := rC141 hR; rw [q, D1] at this; omega
  have ne1 : L.1 140 ≠ e := fun q => by have := rC140 hR; rw [q, D2] at this; omega
  have ne2 : L.1 141 ≠ e := fun q => by have := rC141 hR; rw [q, D2] at this; omega
  have key := loop_ind (fun q (t : Nat × Sg) => f6_answerAll_l46 G (some wa) (some (L.1 113)) n q (b2i (clF W v t.1).2.1) (t.1 : Int) t.2) (fun t => 30 - t.1) (fun t => t.1 ≤ nC W ∧ ((zT t.2 = zT u ∧ zL t.2 = zL u ∧ zI t.2 = zI u ∧ zR t.2 = zR u ∧ zB t.2 = zB u ∧ zN t.2 = zN u) ∧ ∀ a, a ≠ d → a ≠ e → zA t.2 a = zA u a) ∧ (∀ x, x ≠ n → zA t.2 d x = zA u d x ∧ zA t.2 e x = zA u e x) ∧ zA t.2 d n = b2i (clF W v t.1).1 ∧ zA t.2 e n = (clF W v t.1).2.2) (fun _ r => r.2 = (0, 0) ∧ ((zT r.1 = zT u ∧ zL r.1 = zL u ∧ zI r.1 = zI u ∧ zR r.1 = zR u ∧ zB r.1 = zB u ∧ zN r.1 = zN u) ∧ ∀ a, a ≠ d → a ≠ e → zA r.1 a = zA u a) ∧ (∀ x, x ≠ n → zA r.1 d x = zA u d x ∧ zA r.1 e x = zA u e x) ∧ zA r.1 d n = b2i (ansO W v) ∧ zA r.1 e n = decO W v) (by
    rintro q ⟨i, t⟩ ⟨g1, g2, g3, g4, g5⟩ ih
    dsimp only at g1 g2 g3 g4 g5 ⊢
    show ok (f6_answerAll_l46 G (some wa) (some (L.1 113)) n (q + 1) (b2i (clF W v i).2.1) (i : Int) t) _
    unfold f6_answerAll_l46
    have ga : afr L d e u t := ⟨g2.1, fun a _ _ h3 h4 => g2.2 a h3 h4⟩
    have gs := afr_scr hR hD ga
    have ht := RC_scr h gs
    have hRt := ht.1
    have hDt := DE_k hD ga
    have hAt := WQ_k (frz_scr gs) hA
    have t252 : zR t wa 252 = some d := by rw [g2.1.2.2.2.1]; exact h252
    have t253 : zR t wa 253 = some e := by rw [g2.1.2.2.2.1]; exact h253
    obtain ⟨-, ⟨a2, -, -, -, ⟨l4, e4, b1, b2, b3⟩, -⟩, -⟩ := id hAt
    refine ok_eq (gfR_v a2 b1) (ok_eq (ztg_e (lf_tag b2)) (ok_eq (lf_size b2) ?_))
    rw [w32_n (by omega), w32_n (by omega)]
    refine ok_ite (fun hz => ok_some ?_) (fun hz => ?_)
    · have e : i = nC W := by omega
      subst e
      exact ⟨rfl, g2, g3, g4, g5⟩
    have hi : i < nC W := by omega
    obtain ⟨c1, c2, c3, -, c, c5, c6⟩ := b3 i hi
    obtain ⟨k1, k2, k3⟩ := hM.2.2.2.1 i hi
    refine ok_eq (gfR_v a2 b1) (ok_eq (ztg_e (lf_tag b2)) (ok_eq (lf_get b2 i rfl hi) (ok_eq (zcast_1 c2) (ok_eq (gfI_v c2 c3) ?_))))
    rw [w32_id (x := W 24 i) (by omega) (by omega), w32_b2i]
    have et := c_tru ht hM (v := v) (a := mnO W v) (nm := W 19 0) (by omega) k3 c6 (fun f hf => ⟨by rw [g2.2 _ nd1 ne1]; exact (hv f hf).1, (hv f hf).2⟩) (fun k hk => ⟨by rw [g2.2 _ nd2 ne2]; exact hm k (by omega), mnA_01 W v _ k⟩)
    have hcl : clF W v (i + 1) = if tru v (mnO W v) (seg W (W 25 i) (W 26 i)) = false ∨ (W 24 i = 2 ∧ (clF W v i).2.1 = false) then clF W v i else (decide (W 24 i ≠ 1), (clF W v i).2.1 || decide (W 24 i = 0), (i : Int) + 1) := rfl
    -- passed over
    have skip : (tru v (mnO W v) (seg W (W 25 i) (W 26 i)) = false ∨ (W 24 i = 2 ∧ (clF W v i).2.1 = false)) → ok (f6_answerAll_l46 G (some wa) (some (L.1 113)) n q (b2i (clF W v i).2.1) ((i : Int) + 1) t) (fun r => r.2 = (0, 0) ∧ ((zT r.1 = zT u ∧ zL r.1 = zL u ∧ zI r.1 = zI u ∧ zR r.1 = zR u ∧ zB r.1 = zB u ∧ zN r.1 = zN u) ∧ ∀ a, a ≠ d → a ≠ e → zA r.1 a = zA u a) ∧ (∀ x, x ≠ n → zA r.1 d x = zA u d x ∧ zA r.1 e x = zA u e x) ∧ zA r.1 d n = b2i (ansO W v) ∧ zA r.1 e n = decO W v) := fun hq => by
      rw [if_pos hq] at hcl
      have := ih (i + 1, t) ⟨by show i + 1 ≤ nC W; omega, g2, g3, by dsimp only; rw [hcl]; exact g4, by dsimp only; rw [hcl]; exact g5⟩ (by show 30 - (i + 1) < 30 - i; omega)
      dsimp only at this
      rw [hcl] at this
      exact this
    -- the clause decides, so far
    have b89 : ¬ (W 24 i = 2 ∧ (clF W v i).2.1 = false) → ok (f6_answerAll_b89 G (f6_answerAll_l46 G (some wa) (some (L.1 113)) n q) (some wa) (some (L.1 113)) n (b2i (clF W v i).2.1) i (some (e4 i)) t) (fun r => r.2 = (0, 0) ∧ ((zT r.1 = zT u ∧ zL r.1 = zL u ∧ zI r.1 = zI u ∧ zR r.1 = zR u ∧ zB r.1 = zB u ∧ zN r.1 = zN u) ∧ ∀ a, a ≠ d → a ≠ e → zA r.1 a = zA u a) ∧ (∀ x, x ≠ n → zA r.1 d x = zA u d x ∧ zA r.1 e x = zA u e x) ∧ zA r.1 d n = b2i (ansO W v) ∧ zA r.1 e n = decO W v) := fun hq => by
      unfold f6_answerAll_b89
      refine ok_eq (gfR_v c2 c5) (ok_eq et ?_)
      rw [w32_b2i]
      refine ok_ite (fun hz1 => skip (Or.inl (b2i_0.mp hz1))) (fun hz1 => ?_)
      have htr : tru v (mnO W v) (seg W (W 25 i) (W 26 i)) = true := b2i_n1 hz1
      rw [if_neg (by rw [htr]; simp; intro z; have := hq; simp [z] at this; exact this)] at hcl
      refine ok_eq (gfI_v c2 c3) ?_
      rw [w32_id (x := W 24 i) (by omega) (by omega)]
      -- the end
      have b139 : ∀ x : Int, x = b2i (decide (W 24 i ≠ 1)) → ok (f6_answerAll_b139 G (f6_answerAll_l46 G (some wa) (some (L.1 113)) n q) (some wa) (some (L.1 113)) n (b2i (clF W v (i + 1)).2.1) i (some d) n x t) (fun r => r.2 = (0, 0) ∧ ((zT r.1 = zT u ∧ zL r.1 = zL u ∧ zI r.1 = zI u ∧ zR r.1 = zR u ∧ zB r.1 = zB u ∧ zN r.1 = zN u) ∧ ∀ a, a ≠ d → a ≠ e → zA r.1 a = zA u a) ∧ (∀ x, x ≠ n → zA r.1 d x = zA u d x ∧ zA r.1 e x = zA u e x) ∧ zA r.1 d n = b2i (ansO W v) ∧ zA r.1 e n = decO W v) := fun x hx => by
        unfold f6_answerAll_b139
        have x01 : x = 0 ∨ x = 1 := by rw [hx]; cases decide (W 24 i ≠ 1) <;> simp [b2i]
        have wx : w8 (w8 x) = x := by rcases x01 with z | z <;> rw [z] <;> decide
        have wk : w8 (w8 ((i : Int) + 1)) = (i : Int) + 1 := by
          have key : ∀ j : Fin 40, w8 (w8 ((j.1 : Int) + 1)) = (j.1 : Int) + 1 := by decide
          exact key ⟨i, by omega⟩
        rw [wx, wk]
        refine ok_eq (asI_e n hDt.2.1.1 hDt.2.1.2.2 rfl (by rw [hDt.2.1.2.1]; exact hn) (by rw [hDt.2.1.2.1]; omega)) (ok_eq (gfR_v (show zT (zsA t d n x) wa = 7 from a2) (show zR (zsA t d n x) wa 253 = some e from t253)) (ok_eq (asI_e n (show zT (zsA t d n x) e = 102 from hDt.2.2.1) hDt.2.2.2.2 rfl (by show n < zL t e; rw [hDt.2.2.2.1]; exact hn) (by show zL t e ≤ _; rw [hDt.2.2.2.1]; omega)) ?_))
        refine ih (i + 1, _) ⟨by show i + 1 ≤ nC W; omega, ⟨g2.1, fun a h3 h4 => ?_⟩, fun y hy => ⟨?_, ?_⟩, ?_, ?_⟩ (by show 30 - (i + 1) < 30 - i; omega)
        · funext j
          show zA (zsA (zsA t d n x) e n _) a j = _
          rw [zsA_A, if_neg (fun z => h4 z.1), zsA_A, if_neg (fun z => h3 z.1), g2.2 a h3 h4]
        · show zA (zsA (zsA t d n x) e n _) d y = _
          rw [zsA_A, if_neg (fun z => D3 z.1), zsA_A, if_neg (fun z => hy z.2)]; exact (g3 y hy).1
        · show zA (zsA (zsA t d n x) e n _) e y = _
          rw [zsA_A, if_neg (fun z => hy z.2), zsA_A, if_neg (fun z => hy z.2)]; exact (g3 y hy).2
        · show zA (zsA (zsA t d n x) e n _) d n = b2i (clF W v (i + 1)).1
          rw [zsA_A, if_neg (fun z => D3 z.1), zsA_A, if_pos ⟨rfl, rfl⟩, hcl, hx]
        · show zA (zsA (zsA t d n x) e n _) e n = (clF W v (i + 1)).2.2
          rw [zsA_A, if_pos ⟨rfl, rfl⟩, hcl]
      have b118 : ∀ y : Bool, y = decide (W 24 i = 0) → ok (f6_answerAll_b118 G (f6_answerAll_l46 G (some wa) (some (L.1 113)) n q) (some wa) (some (L.1 113)) n i (some (e4 i)) (b2i (clF W v i).2.1) (b2i y) t) (fun r => r.2 = (0, 0) ∧ ((zT r.1 = zT u ∧ zL r.1 = zL u ∧ zI r.1 = zI u ∧ zR r.1 = zR u ∧ zB r.1 = zB u ∧ zN r.1 = zN u) ∧ ∀ a, a ≠ d → a ≠ e → zA r.1 a = zA u a) ∧ (∀ x, x ≠ n → zA r.1 d x = zA u d x ∧ zA r.1 e x = zA u e x) ∧ zA r.1 d n = b2i (ansO W v) ∧ zA r.1 e n = decO W v) := fun y hy => by
        unfold f6_answerAll_b118
        refine ok_eq (gfR_v a2 t252) (ok_eq (gfI_v c2 c3) ?_)
        rw [w32_id (x := W 24 i) (by omega) (by omega), or_b]
        have e1 : ((clF W v i).2.1 || y) = (clF W v (i + 1)).2.1 := by rw [hcl, hy]
        rw [e1]
        refine ok_ite (fun z => b139 0 (by rw [decide_eq_false (by omega)]; rfl)) (fun z => b139 1 (by rw [decide_eq_true (by omega)]; rfl))
      refine ok_ite (fun z => b118 true (by rw [decide_eq_true z])) (fun z => b118 false (by rw [decide_eq_false z]))
    refine ok_ite (fun z1 => ?_) (fun z1 => b89 (fun z => z1 z.1))
    refine ok_ite (fun z2 => skip (Or.inr ⟨z1, b2i_0.mp z2⟩)) (fun z2 => b89 (fun z => z2 (b2i_0.mpr z.2)))) NN (0, u) ⟨Nat.zero_le _, ⟨⟨rfl, rfl, rfl, rfl, rfl, rfl⟩, fun _ _ _ => rfl⟩, fun _ _ => ⟨rfl, rfl⟩, h0.1, h0.2⟩ (NN_gt (by show 30 - 0 < 100000; omega))
  obtain ⟨⟨u', cs⟩, e1, r1, r2, r3, r4, r5⟩ := key
  have r1 : cs = (0, 0) := r1
  subst r1
  exact ⟨u', e1, ⟨r2.1, fun a _ _ h3 h4 => r2.2 a h3 h4⟩, r3, r4, r5⟩
/-- all cells -/
theorem c_22 {G : CG} {L : Ly} {u : Sg} {m : Mu} (h : RC G L u m) {W : Wv} {wa d e N : Nat} (hM : WM W) (hA : WQ G L u wa W) (hD : DE G L u d e N) (hN : N = ug W 0) (h251 : zI u wa 251 = (N : Int)) (h252 : zR u wa 252 = some d) (h253 : zR u wa 253 = some e) (h0 : ∀ x, x < N → zA u d x = 0 ∧ zA u e x = 0) : ∃ u', f6_answerAll_l22 G (some wa) (some (L.1 113)) NN 0 u = some (u', 0, 0) ∧ afr L d e u u' ∧ ∀ c, c < N → zA u' d c = b2i (ansO W (val0 W c)) ∧ zA u' e c = decO W (val0 W c) := by
  have hR := h.1
  have hT := ug_T hM (f := 0) (Nat.zero_le _)
  obtain ⟨⟨D1, D2, D3⟩, -, -⟩ := id hD
  have nd1 : d ≠ L.1 140 := fun q => by have := rC140 hR; rw [← q, D1] at this; omega
  have nd2 : d ≠ L.1 141 := fun q => by have := rC141 hR; rw [← q, D1] at this; omega
  have ne1 : e ≠ L.1 140 := fun q => by have := rC140 hR; rw [← q, D2] at this; omega
  have ne2 : e ≠ L.1 141 := fun q => by have := rC141 hR; rw [← q, D2] at this; omega
  have key := loop_ind (fun q (t : Nat × Sg) => f6_answerAll_l22 G (some wa) (some (L.1 113)) q (t.1 : Int) t.2) (fun t => N - t.1) (fun t => t.1 ≤ N ∧ afr L d e u t.2 ∧ (∀ c, c < t.1 → zA t.2 d c = b2i (ansO W (val0 W c)) ∧ zA t.2 e c = decO W (val0 W c)) ∧ ∀ x, t.1 ≤ x → x < N → zA t.2 d x = 0 ∧ zA t.2 e x = 0) (fun _ r => r.2 = (0, 0) ∧ afr L d e u r.1 ∧ ∀ c, c < N → zA r.1 d c = b2i (ansO W (val0 W c)) ∧ zA r.1 e c = decO W (val0 W c)) (by
    rintro q ⟨n, t⟩ ⟨g1, ga, g3, g4⟩ ih
    dsimp only at g1 ga g3 g4 ⊢
    show ok (f6_answerAll_l22 G (some wa) (some (L.1 113)) (q + 1) (n : Int) t) _
    unfold f6_answerAll_l22
    have gs := afr_scr hR hD ga
    have ht := RC_scr h gs
    have hDt := DE_k hD ga
    have hAt := WQ_k (frz_scr gs) hA
    have tI : zI t wa 251 = (N : Int) := by rw [ga.1.2.2.1]; exact h251
    refine ok_eq (gfI_v hAt.2.1.1 tI) ?_
    rw [w32_n (by omega), w32_n (by omega)]
    refine ok_ite (fun hz => ok_some ⟨rfl, ga, fun c hc => g3 c (by omega)⟩) (fun hz => ?_)
    have hn : n < N := by omega
    obtain ⟨t1, e1, s1, v1⟩ := c_way1 ht hM hAt (n := n) (by omega)
    have a1 : afr L d e t t1 := afr_Z (Or.inl rfl) s1
    have gs1 := afr_scr hR hD (afr_tr ga a1)
    have ht1 := RC_scr h gs1
    have hA1 := WQ_k (frz_scr gs1) hA
    have vw : ∀ f, f < nF W → zA t1 (L.1 140) f = val0 W n f ∧ w32 (val0 W n f) = val0 W n f := fun f hf => ⟨v1 f hf, val_w hM hf⟩
    obtain ⟨t2, e2, s2, v2⟩ := c_mean1 ht1 hM hA1 vw
    have a2 : afr L d e t1 t2 := afr_Z (Or.inr (Or.inl rfl)) s2
    have ga2 := afr_tr ga (afr_tr a1 a2)
    have gs2 := afr_scr hR hD ga2
    have ht2 := RC_scr h gs2
    have hA2 := WQ_k (frz_scr gs2) hA
    have hD2 := DE_k hD ga2
    have dA : ∀ x, zA t2 d x = zA t d x := fun x => by rw [s2.2 d nd2, s1.2 d nd1]
    have eA : ∀ x, zA t2 e x = zA t e x := fun x => by rw [s2.2 e ne2, s1.2 e ne1]
    refine ok_eq (ztg_e hAt.2.1.1) (ok_eq e1 (ok_eq (ztg_e hA1.2.1.1) (ok_eq e2 ?_)))
    obtain ⟨t3, e3, a3, o3, p3, q3⟩ := c_46 ht2 (n := n) (v := val0 W n) hM hA2 hD2 (by rw [ga2.1.2.2.2.1]; exact h252) (by rw [ga2.1.2.2.2.1]; exact h253) hn (by omega) (fun f hf => ⟨by rw [s2.2 _ (rne (rC140 hR) (rC141 hR) (by decide))]; exact v1 f hf, val_w hM hf⟩) v2 ⟨by rw [dA]; exact (g4 n (Nat.le_refl _) hn).1, by rw [eA]; exact (g4 n (Nat.le_refl _) hn).2⟩
    rw [e3, bdU_z]
    refine ih (n + 1, t3) ⟨by show n + 1 ≤ N; omega, afr_tr ga2 a3, fun c hc => ?_, fun x h1 h2 => ?_⟩ (by show N - (n + 1) < N - n; omega)
    · have hc : c < n + 1 := hc
      dsimp only
      by_cases z : c = n
      · rw [z]; exact ⟨p3, q3⟩
      · rw [(o3 c z).1, (o3 c z).2, dA, eA]; exact g3 c (by omega)
    · have h1 : n + 1 ≤ x := h1
      dsimp only
      rw [(o3 x (by omega)).1, (o3 x (by omega)).2, dA, eA]; exact g4 x (by omega) h2) NN (0, u) ⟨Nat.zero_le _, afr_rf, fun c hc => absurd hc (Nat.not_lt_zero _), fun x _ hx => h0 x hx⟩ (NN_gt (by show N - 0 < 100000; omega))
  obtain ⟨⟨u', cs⟩, e1, r1, r2, r3⟩ := key
  have r1 : cs = (0, 0) := r1
  subst r1
  exact ⟨u', e1, r2, r3⟩
