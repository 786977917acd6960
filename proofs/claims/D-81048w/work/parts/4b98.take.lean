/-! ENDORSE: a new wording takes over what the old one has -/
theorem tk2 {α : Type} {G : CG} {t : Sg} {N o bE l c d j n C S : Nat} {P : α → Prop} {K : Int × Sg → Option (α × Nat × Nat)} (hTN : zT t N = 7) (hTo : zT t o = 7) (hl : zR t N j = some l) (hc : zR t o j = some c) (hLA : LA t l bE 0) (hLW : LW G t l bE) (hz : zL t bE = 0) (hcd : LA t c d n) (hG : G0 G ≤ zN t) (hn : n ≤ 24) (hC : 2 ≤ C) (hS : 3 * n + 10 ≤ S) (kk : ∀ b' t' x, gro t t' → zN t' ≤ zN t + 2 → (∀ q, q < zN t → q ≠ l → sam t t' q) → LA t' l b' n → LW G t' l b' → (b' = bE ∨ zN t ≤ b') → (∀ i, i < n → zB t' b' i = zB t d i) → okU (K (x, t')) (C - 2) (S - (3 * n + 10)) P) : okU ((gfR t 7 j (some N)).bind fun x1 => (gfR t 7 j (some o)).bind fun x2 => (ztg t 6 x1).bind fun b3 => bdU (fJ2_addAll G (some b3) x2 t) K) C S P := by
  obtain ⟨b', t', e, a1, a2, a3, a4, a5, a6, a7, a8⟩ := J_addAll hLA hLW hcd hG (by omega) shr32_1
  rw [gfR_v hTN hl, Option.bind_some, gfR_v hTo hc, Option.bind_some, ztg_e hLA.1, Option.bind_some]
  refine okU_bdU e hC (by omega) (fun q hq => ?_)
  obtain ⟨x, u⟩ := q
  have hq : u = t' := hq
  subst hq
  have := kk b' u x a6 a7 (fun q h1 h2 => a8 q h1 h2 (by
    by_cases z : q = b'
    · right
      rcases a5 with y | y
      · rw [z, y]; exact hz
      · omega
    · exact Or.inl z)) (by rw [Nat.zero_add] at a1; exact a1) a2 a5 (fun i hi => by have := a4 i hi; rw [Nat.zero_add] at this; exact this)
  exact okU_mono this (Nat.le_refl _) (by omega) (fun _ h => h)
/-- a list that took over -/
def LNE (G : CG) (t : Sg) (N l bE n : Nat) (el : Nat → Nat) : Prop := ∃ b, LA t l b n ∧ LW G t l b ∧ (b = bE ∨ N ≤ b) ∧ ∀ i, i < n → zB t b i = some (el i)
theorem LNE_k {G : CG} {t t' : Sg} {N l bE n : Nat} {el : Nat → Nat} (h : LNE G t N l bE n el) (hg : gro t t') (hs : ∀ q, q < zN t → (q = l ∨ q = bE ∨ N ≤ q) → sam t t' q) : LNE G t' N l bE n el := by
  obtain ⟨b, h1, h2, h3, h4⟩ := h
  have sb := hs b h1.2.2.2.2.2.2.2.1 (by omega)
  have sl := hs l h1.2.2.2.2.2.2.1 (Or.inl rfl)
  exact ⟨b, LA_sam h1 sl sb hg.1 (fun x hx => (hg.2 x hx).1), ⟨h2.1, fun q => h2.2.1 (by rw [← sb.2.1]; exact q), fun q => h2.2.2 (by rw [← sb.2.1]; exact q)⟩, h3, fun i hi => by rw [sb.2.2.2.2.2]; exact h4 i hi⟩
theorem tk74 {G : CG} {t : Sg} {N o d e : Nat} (hTN : zT t N = 7) (hTo : zT t o = 7) (hd : zR t N 247 = some d) (he : zR t o 247 = some e) (hdT : zT t d = 101 ∧ zL t d = 3 ∧ G0 G ≤ d) (heT : zT t e = 101 ∧ zL t e = 3) (hde : d ≠ e) : ∃ t', f6_takeOver_l74 G (some N) (some o) NN 0 t = some t' ∧ gro t t' ∧ zN t' = zN t ∧ (∀ q, q ≠ d → sam t t' q) ∧ zT t' d = 101 ∧ zL t' d = 3 ∧ ∀ k, k < 3 → zA t' d k = zA t e k := by
  obtain ⟨fu, hfu⟩ : ∃ fu, NN = fu + 1 + 1 + 1 + 1 := ⟨NN - 4, by have := NN_ge; omega⟩
  obtain ⟨t1, h1⟩ : ∃ t1, t1 = zsA t d 0 (zA t e 0) := ⟨_, rfl⟩
  obtain ⟨t2, h2⟩ : ∃ t2, t2 = zsA t1 d 1 (zA t e 1) := ⟨_, rfl⟩
  obtain ⟨t3, h3⟩ : ∃ t3, t3 = zsA t2 d 2 (zA t e 2) := ⟨_, rfl⟩
  have s1 : ∀ q, q ≠ d → sam t t1 q := fun q hq => by rw [h1]; exact sam_zsA sam_rf hq
  have s2 : ∀ q, q ≠ d → sam t t2 q := fun q hq => by rw [h2]; exact sam_zsA (s1 q hq) hq
  have s3 : ∀ q, q ≠ d → sam t t3 q := fun q hq => by rw [h3]; exact sam_zsA (s2 q hq) hq
  have T1 : zT t1 = zT t := by rw [h1]; rfl
  have T2 : zT t2 = zT t := by rw [h2]; exact T1
  have T3 : zT t3 = zT t := by rw [h3]; exact T2
  have L1 : zL t1 = zL t := by rw [h1]; rfl
  have L2 : zL t2 = zL t := by rw [h2]; exact L1
  have L3 : zL t3 = zL t := by rw [h3]; exact L2
  have R1 : zR t1 = zR t := by rw [h1]; rfl
  have R2 : zR t2 = zR t := by rw [h2]; exact R1
  have N1 : zN t1 = zN t := by rw [h1]; rfl
  have N2 : zN t2 = zN t := by rw [h2]; exact N1
  have N3 : zN t3 = zN t := by rw [h3]; exact N2
  refine ⟨t3, ?_, ⟨by omega, fun x _ => ⟨by rw [T3], by rw [L3]⟩⟩, N3, s3, by rw [T3]; exact hdT.1, by rw [L3]; exact hdT.2.1, fun k hk => ?_⟩
  · rw [hfu, f6_takeOver_l74.eq_2, if_neg (by decide), gfR_v hTN hd, Option.bind_some, gfR_v hTo he, Option.bind_some, alI_e (t := 1) (i := 0) 0 heT.1 rfl (by omega) (by omega), Option.bind_some, asI_e (t := 1) (i := 0) 0 hdT.1 hdT.2.2 rfl (by omega) (by omega), Option.bind_some, ← h1]
    rw [f6_takeOver_l74.eq_2, if_neg (by decide), gfR_v (r := some d) (by rw [T1]; exact hTN) (by rw [R1]; exact hd), Option.bind_some, gfR_v (r := some e) (by rw [T1]; exact hTo) (by rw [R1]; exact he), Option.bind_some, alI_e (t := 1) (i := 0 + 1) 1 (by rw [T1]; exact heT.1) rfl (by rw [L1]; omega) (by rw [L1]; omega), Option.bind_some, (s1 e (fun q => hde q.symm)).2.2.2.2.1, asI_e (t := 1) (i := 0 + 1) 1 (by rw [T1]; exact hdT.1) hdT.2.2 rfl (by rw [L1]; omega) (by rw [L1]; omega), Option.bind_some, ← h2]
    rw [f6_takeOver_l74.eq_2, if_neg (by decide), gfR_v (r := some d) (by rw [T2]; exact hTN) (by rw [R2]; exact hd), Option.bind_some, gfR_v (r := some e) (by rw [T2]; exact hTo) (by rw [R2]; exact he), Option.bind_some, alI_e (t := 1) (i := 0 + 1 + 1) 2 (by rw [T2]; exact heT.1) rfl (by rw [L2]; omega) (by rw [L2]; omega), Option.bind_some, (s2 e (fun q => hde q.symm)).2.2.2.2.1, asI_e (t := 1) (i := 0 + 1 + 1) 2 (by rw [T2]; exact hdT.1) hdT.2.2 rfl (by rw [L2]; omega) (by rw [L2]; omega), Option.bind_some, ← h3]
    rw [f6_takeOver_l74.eq_2, if_pos (by decide)]
  · have e3 : ∀ j, zA t3 d j = if j = 2 then zA t e 2 else if j = 1 then zA t e 1 else if j = 0 then zA t e 0 else zA t d j := fun j => by
      rw [h3, zsA_A, h2, zsA_A, h1, zsA_A]; simp
    rw [e3]
    have : k = 0 ∨ k = 1 ∨ k = 2 := by omega
    rcases this with rfl | rfl | rfl <;> simp
/-- behind takeOver -/
def TKD (G : CG) (t : Sg) (N bE : Nat) (W : Wv) (e1 e2 e3 e5 : Nat → Nat) : Prop := zT t N = 7 ∧ (∀ j, zR t N j = fE N j) ∧ LNE G t (N + 8) (N + 1) bE (nF W) e1 ∧ LNE G t (N + 8) (N + 2) bE (nM W) e2 ∧ LNE G t (N + 8) (N + 3) bE (nM W) e3 ∧ LNE G t (N + 8) (N + 5) bE (nP W) e5 ∧ (zI t N 245 = W 32 0 ∧ zI t N 246 = W 32 1 ∧ zI t N 248 = ((List.range (nM W)).map fun k => W 22 k - W 21 k).sum + ((List.range (nP W)).map fun k => W 31 k - W 30 k).sum) ∧ (zT t (N + 6) = 101 ∧ zL t (N + 6) = 3 ∧ ∀ k, k < 3 → zA t (N + 6) k = W 32 (2 + k))
theorem c_take {G : CG} {L : Ly} {t : Sg} {N o bE l1 l2 l3 l5 : Nat} {el1 el2 el3 el5 : Nat → Nat} {W : Wv} (hM : WM W) (hA : WA G L t o W) (hE : GS G 6 = some bE ∧ bE < G0 G ∧ zT t bE = 105 ∧ zL t bE = 0 ∧ ∀ i, zB t bE i = none) (hG : G0 G ≤ N) (hN : N + 8 ≤ zN t) (hL : ∀ q, L.2 q = 1 → q < N) (hT : zT t N = 7) (hR : ∀ j, zR t N j = fE N j) (hl : ∀ k, k = 1 ∨ k = 2 ∨ k = 3 ∨ k = 5 → zT t (N + k) = 6 ∧ zR t (N + k) 201 = some bE ∧ zI t (N + k) 202 = 0) (hb : zT t (N + 6) = 101 ∧ zL t (N + 6) = 3) (q1 : zR t o 240 = some l1) (f1 : LF L t l1 (nF W) el1) (q2 : zR t o 241 = some l2) (f2 : LF L t l2 (nM W) el2) (q3 : zR t o 242 = some l3) (f3 : LF L t l3 (nM W) el3) (q5 : zR t o 244 = some l5) (f5 : LF L t l5 (nP W) el5) : ∃ t', okU (f6_takeOver G (some N) (some o) t) 8 220 (fun r => r = t') ∧ gro t t' ∧ (∀ q, q < zN t → q ≠ N → q ≠ N + 1 → q ≠ N + 2 → q ≠ N + 3 → q ≠ N + 5 → q ≠ N + 6 → sam t t' q) ∧ TKD G t' N bE W el1 el2 el3 el5 := by
  have hM1 := hM.1
  have n1 : nF W ≤ 8 := by unfold nF; omega
  have n2 : nM W ≤ 12 := by unfold nM; omega
  have n5 : nP W ≤ 24 := by unfold nP; omega
  obtain ⟨⟨c0, To⟩, -, -, -, -, -, ⟨s1, s2, d, s3, s4, s5⟩, ⟨u1, u2, u3⟩, -⟩ := hA
  have oN := hL o c0
  have dN := hL d s4.1
  obtain ⟨d1, g11, g12, g13, g14⟩ := f1
  obtain ⟨d2, g21, g22, g23, g24⟩ := f2
  obtain ⟨d3, g31, g32, g33, g34⟩ := f3
  obtain ⟨d5, g51, g52, g53, g54⟩ := f5
  have hl1N := hL l1 g12
  have hl2N := hL l2 g22
  have hl3N := hL l3 g32
  have hl5N := hL l5 g52
  have hd1N := hL d1 g13
  have hd2N := hL d2 g23
  have hd3N := hL d3 g33
  have hd5N := hL d5 g53
  obtain ⟨hE1, hE2, hE3, hE4, hE5⟩ := hE
  have LA0 : ∀ k, k = 1 ∨ k = 2 ∨ k = 3 ∨ k = 5 → ∀ t' : Sg, gro t t' → sam t t' (N + k) → sam t t' bE → LA t' (N + k) bE 0 ∧ LW G t' (N + k) bE ∧ zL t' bE = 0 := fun k hk t' hg sk sb => by
    obtain ⟨k1, k2, k3⟩ := hl k hk
    have hg1 := hg.1
    have e0 : zL t' bE = 0 := by rw [sb.2.1]; exact hE4
    exact ⟨⟨by rw [sk.1]; exact k1, by rw [sk.2.2.2.1]; exact k2, by rw [sk.2.2.1]; exact k3, by rw [sb.1]; exact hE3, by omega, by omega, by omega, by omega, fun i x hx => by rw [sb.2.2.2.2.2, hE5] at hx; cases hx⟩, ⟨by show G0 G ≤ _; omega, fun _ => hE1, fun q => by omega⟩, e0⟩
  have fe : fE N 240 = some (N + 1) ∧ fE N 241 = some (N + 2) ∧ fE N 242 = some (N + 3) ∧ fE N 244 = some (N + 5) ∧ fE N 247 = some (N + 6) := by unfold fE; simp
  -- what is known of a state on the way
  have stp : ∀ {u u' : Sg} {l : Nat}, (∀ q, q < zN u → q ≠ l → sam u u' q) → gro t u → (∀ q, q < N → sam t u q) → N ≤ l → ∀ q, q < N → sam t u' q := fun {u u' l} h1 h2 h3 h4 q hq => sam_tr (h3 q hq) (h1 q (by have := h2.1; omega) (by omega))
  have key : ∃ t', okU (f6_takeOver G (some N) (some o) t) 8 220 (fun r => r = t') ∧ gro t t' ∧ (∀ q, q < zN t → q ≠ N → q ≠ N + 1 → q ≠ N + 2 → q ≠ N + 3 → q ≠ N + 5 → q ≠ N + 6 → sam t t' q) ∧ TKD G t' N bE W el1 el2 el3 el5 := by
    obtain ⟨a1, a2, a3⟩ := LA0 1 (by omega) t gro_rf sam_rf sam_rf
    have main : okU (f6_takeOver G (some N) (some o) t) 8 220 (fun t' => gro t t' ∧ (∀ q, q < zN t → q ≠ N → q ≠ N + 1 → q ≠ N + 2 → q ≠ N + 3 → q ≠ N + 5 → q ≠ N + 6 → sam t t' q) ∧ TKD G t' N bE W el1 el2 el3 el5) := by
      unfold f6_takeOver
      refine tk2 hT To (by rw [hR]; exact fe.1) q1 a1 a2 a3 g11 (by omega) (by omega) (by omega) (by omega) (fun b1 t1 x1 r1 r2 r3 r4 r5 r6 r7 => ?_)
      dsimp only
      have w1 : ∀ q, q < N → sam t t1 q := fun q hq => r3 q (by omega) (by omega)
      have N1 := r1.1
      obtain ⟨a1, a2, a3⟩ := LA0 2 (by omega) t1 r1 (r3 _ (by omega) (by omega)) (r3 _ (by omega) (by omega))
      have sN1 := r3 N (by omega) (by omega)
      have g21' := LA_sam g21 (w1 l2 hl2N) (w1 d2 hd2N) r1.1 (fun x hx => (r1.2 x hx).1)
      refine tk2 (by rw [sN1.1]; exact hT) (by rw [(w1 o oN).1]; exact To) (by rw [sN1.2.2.2.1, hR]; exact fe.2.1) (by rw [(w1 o oN).2.2.2.1]; exact q2) a1 a2 a3 g21' (by omega) (by omega) (by omega) (by omega) (fun b2 t2 x2 p1 p2 p3 p4 p5 p6 p7 => ?_)
      dsimp only
      have w2 : ∀ q, q < N → sam t t2 q := fun q hq => sam_tr (w1 q hq) (p3 q (by omega) (by omega))
      have g2 := gro_tr r1 p1
      have N2 := g2.1
      have E1 : LNE G t1 (N + 8) (N + 1) bE (nF W) el1 := ⟨b1, r4, r5, by omega, fun i hi => by rw [r7 i hi]; exact g14 i hi⟩
      obtain ⟨a1, a2, a3⟩ := LA0 3 (by omega) t2 g2 (sam_tr (r3 _ (by omega) (by omega)) (p3 _ (by omega) (by omega))) (w2 _ (by omega))
      have sN2 := sam_tr sN1 (p3 N (by omega) (by omega))
      have g31' := LA_sam g31 (w2 l3 hl3N) (w2 d3 hd3N) g2.1 (fun x hx => (g2.2 x hx).1)
      have E1 := LNE_k E1 p1 (fun q h1 h2 => p3 q h1 (by omega))
      refine tk2 (by rw [sN2.1]; exact hT) (by rw [(w2 o oN).1]; exact To) (by rw [sN2.2.2.2.1, hR]; exact fe.2.2.1) (by rw [(w2 o oN).2.2.2.1]; exact q3) a1 a2 a3 g31' (by omega) (by omega) (by omega) (by omega) (fun b3 t3 x3 v1 v2 v3 v4 v5 v6 v7 => ?_)
      dsimp only
      have w3 : ∀ q, q < N → sam t t3 q := fun q hq => sam_tr (w2 q hq) (v3 q (by omega) (by omega))
      have g3 := gro_tr g2 v1
      have N3 := g3.1
      have E2 : LNE G t2 (N + 8) (N + 2) bE (nM W) el2 := ⟨b2, p4, p5, by omega, fun i hi => by rw [p7 i hi, (w1 d2 hd2N).2.2.2.2.2]; exact g24 i hi⟩
      have E2 := LNE_k E2 v1 (fun q h1 h2 => v3 q h1 (by omega))
      have E1 := LNE_k E1 v1 (fun q h1 h2 => v3 q h1 (by omega))
      obtain ⟨a1, a2, a3⟩ := LA0 5 (by omega) t3 g3 (sam_tr (sam_tr (r3 _ (by omega) (by omega)) (p3 _ (by omega) (by omega))) (v3 _ (by omega) (by omega))) (w3 _ (by omega))
      have sN3 := sam_tr sN2 (v3 N (by omega) (by omega))
      have g51' := LA_sam g51 (w3 l5 hl5N) (w3 d5 hd5N) g3.1 (fun x hx => (g3.2 x hx).1)
      refine tk2 (by rw [sN3.1]; exact hT) (by rw [(w3 o oN).1]; exact To) (by rw [sN3.2.2.2.1, hR]; exact fe.2.2.2.1) (by rw [(w3 o oN).2.2.2.1]; exact q5) a1 a2 a3 g51' (by omega) (by omega) (by omega) (by omega) (fun b5 t4 x4 y1 y2 y3 y4 y5 y6 y7 => ?_)
      have w4 : ∀ q, q < N → sam t t4 q := fun q hq => sam_tr (w3 q hq) (y3 q (by omega) (by omega))
      have g4 := gro_tr g3 y1
      have N4 := g4.1
      have E5 : LNE G t4 (N + 8) (N + 5) bE (nP W) el5 := ⟨b5, y4, y5, by omega, fun i hi => by rw [y7 i hi, (w3 d5 hd5N).2.2.2.2.2]; exact g54 i hi⟩
      have E3 : LNE G t3 (N + 8) (N + 3) bE (nM W) el3 := ⟨b3, v4, v5, by omega, fun i hi => by rw [v7 i hi, (w2 d3 hd3N).2.2.2.2.2]; exact g34 i hi⟩
      have E3 := LNE_k E3 y1 (fun q h1 h2 => y3 q h1 (by omega))
      have E2 := LNE_k E2 y1 (fun q h1 h2 => y3 q h1 (by omega))
      have E1 := LNE_k E1 y1 (fun q h1 h2 => y3 q h1 (by omega))
      have sN4 := sam_tr sN3 (y3 N (by omega) (by omega))
      have so4 := w4 o oN
      dsimp only
      have T4N : zT t4 N = 7 := by rw [sN4.1]; exact hT
      have T4o : zT t4 o = 7 := by rw [so4.1]; exact To
      have No : N ≠ o := by omega
      obtain ⟨t5, h5⟩ : ∃ t5, t5 = zsI (zsI t4 N 245 (W 32 0)) N 246 (W 32 1) := ⟨_, rfl⟩
      have T5 : zT t5 = zT t4 := by rw [h5]; rfl
      have R5 : zR t5 = zR t4 := by rw [h5]; rfl
      have L5 : zL t5 = zL t4 := by rw [h5]; rfl
      have A5 : zA t5 = zA t4 := by rw [h5]; rfl
      have s5' : ∀ q, q ≠ N → sam t4 t5 q := fun q hq => by rw [h5]; exact sam_zsI (sam_zsI sam_rf hq) hq
      have s46 : sam t t4 (N + 6) := sam_tr (sam_tr (sam_tr (r3 _ (by omega) (by omega)) (p3 _ (by omega) (by omega))) (v3 _ (by omega) (by omega))) (y3 _ (by omega) (by omega))
      obtain ⟨t6, z1, z2, z3, z4, z5, z6, z7⟩ := tk74 (G := G) (t := t5) (N := N) (o := o) (d := N + 6) (e := d) (by rw [T5]; exact T4N) (by rw [T5]; exact T4o) (by rw [R5, sN4.2.2.2.1, hR]; exact fe.2.2.2.2) (by rw [R5, so4.2.2.2.1]; exact s3) ⟨by rw [T5, s46.1]; exact hb.1, by rw [L5, s46.2.1]; exact hb.2, by omega⟩ ⟨by rw [T5, (w4 d dN).1]; exact s4.2.1, by rw [L5, (w4 d dN).2.1]; exact s4.2.2⟩ (by omega)
      have T6N : zT t6 N = 7 := by rw [(z4 N (by omega)).1, T5]; exact T4N
      have T6o : zT t6 o = 7 := by rw [(z4 o (by omega)).1, T5]; exact T4o
      have I6o : zI t6 o = zI t o := by rw [(z4 o (by omega)).2.2.1, (s5' o (by omega)).2.2.1, so4.2.2.1]
      rw [gfI_v (r := W 32 0) T4o (by rw [so4.2.2.1]; exact s1), Option.bind_some, pfI_e T4N hG, Option.bind_some, gfI_v (r := W 32 1) (show zT (zsI t4 N 245 (W 32 0)) o = 7 from T4o) (by rw [zsI_I, if_neg (fun q => No q.1.symm), so4.2.2.1]; exact s2), Option.bind_some, pfI_e (show zT (zsI t4 N 245 (W 32 0)) N = 7 from T4N) hG, Option.bind_some, ← h5, z1, Option.bind_some, gfI_v (r := ((List.range (nM W)).map fun k => W 22 k - W 21 k).sum + ((List.range (nP W)).map fun k => W 31 k - W 30 k).sum) T6o (by rw [I6o]; exact u3), Option.bind_some, pfI_e T6N hG, Option.bind_some]
      obtain ⟨t7, h7⟩ : ∃ t7, t7 = zsI t6 N 248 (((List.range (nM W)).map fun k => W 22 k - W 21 k).sum + ((List.range (nP W)).map fun k => W 31 k - W 30 k).sum) := ⟨_, rfl⟩
      rw [← h7]
      have s7 : ∀ q, q ≠ N → sam t6 t7 q := fun q hq => by rw [h7]; exact sam_zsI sam_rf hq
      have g47 : gro t4 t7 := by
        refine ⟨?_, fun x _ => ⟨?_, ?_⟩⟩
        · rw [h7]; show zN t4 ≤ zN t6; rw [z3, h5]; exact Nat.le_refl _
        · rw [h7]; show zT t6 x = _
          by_cases z : x = N + 6
          · rw [z, z5, s46.1]; exact hb.1.symm
          · rw [(z4 x z).1, T5]
        · rw [h7]; show zL t6 x = _
          by_cases z : x = N + 6
          · rw [z, z6, s46.2.1]; exact hb.2.symm
          · rw [(z4 x z).2.1, L5]
      have s47 : ∀ q, q ≠ N → q ≠ N + 6 → sam t4 t7 q := fun q h1 h2 => sam_tr (sam_tr (s5' q h1) (z4 q h2)) (s7 q h1)
      have I7 : ∀ j, zI t7 N j = if j = 248 then (((List.range (nM W)).map fun k => W 22 k - W 21 k).sum + ((List.range (nP W)).map fun k => W 31 k - W 30 k).sum) else if j = 246 then W 32 1 else if j = 245 then W 32 0 else zI t4 N j := fun j => by
        rw [h7, zsI_I, (z4 N (by omega)).2.2.1, h5, zsI_I, zsI_I]
        simp
      refine okU_some ⟨gro_tr g4 g47, fun q x0 x1 x2 x3 x4 x5 x6 => ?_, by rw [h7]; exact T6N, fun j => ?_, LNE_k E1 g47 (fun q h1 h2 => s47 q (by omega) (by omega)), LNE_k E2 g47 (fun q h1 h2 => s47 q (by omega) (by omega)), LNE_k E3 g47 (fun q h1 h2 => s47 q (by omega) (by omega)), LNE_k E5 g47 (fun q h1 h2 => s47 q (by omega) (by omega)), ⟨by rw [I7]; simp, by rw [I7]; simp, by rw [I7]; simp⟩, by rw [h7]; exact z5, by rw [h7]; exact z6, fun k hk => ?_⟩ (Nat.zero_le _) (Nat.zero_le _)
      · exact sam_tr (sam_tr (sam_tr (sam_tr (r3 q x0 x2) (p3 q (by omega) x3)) (v3 q (by omega) x4)) (y3 q (by omega) x5)) (s47 q x1 x6)
      · rw [h7]; show zR t6 N j = _; rw [(z4 N (by omega)).2.2.2.1, R5, sN4.2.2.2.1]; exact hR j
      · rw [h7]; show zA t6 (N + 6) k = _
        rw [z7 k hk, A5, (w4 d dN).2.2.2.2.1]; exact s5 k hk
    obtain ⟨⟨t', c, n⟩, e, ⟨p1, p2, p3⟩, p4, p5⟩ := main
    exact ⟨t', ⟨_, e, rfl, p4, p5⟩, p1, p2, p3⟩
  exact key
