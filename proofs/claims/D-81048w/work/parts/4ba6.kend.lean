/-! ENDORSE: the class's end and its beginning -/
noncomputable def KEe (G : CG) (r kl ml : Nat) : Sg → Option (((Nat ⊕ Unit) × Sg) × Nat × Nat) := fun q16 =>
  bdU (f7_endorsement_l219 G (some r) (some kl) (some ml) NN 0 q16) fun q17 =>
  (gfR q17 8 286 (some r)).bind fun x18 =>
  (gfR q17 7 243 x18).bind fun x19 =>
  (ztg q17 6 x19).bind fun b20 =>
  bdU (fJ2_addAll G (some b20) (some ml) q17) fun q21 =>
  (gfR q21.2 8 286 (some r)).bind fun x22 =>
  (gfR q21.2 7 243 x22).bind fun x23 =>
  (ztg q21.2 6 x23).bind fun b24 =>
  (fJ2_size G (some b24) q21.2).bind fun x25 =>
  if 24 < (w32 x25) then
    f7_endorsement_b316 G (some r) q21.2
  else
    (gfR q21.2 8 286 (some r)).bind fun x26 =>
    (ztg q21.2 7 x26).bind fun b27 =>
    (f6_countNodes G (some b27) q21.2).bind fun q28 =>
    if (w32 q28.1) ≤ 300 then
      some ((.inr (), q28.2), 0, 0)
    else
      f7_endorsement_b316 G (some r) q28.2
theorem ceO_len {oel ec : Nat → Nat} {m : Mu} : ∀ n, (ceO oel ec m n).length ≤ n := by
  intro n
  induction n with
  | zero => exact Nat.le_refl _
  | succ n ih =>
    simp only [ceO]
    rw [List.length_append]
    split
    · simp; omega
    · split <;> simp <;> omega
/-- the clauses that stand, or come in their stead, are added -/
theorem e_l219 {G : CG} {t : Sg} {N r kl kb ml bE n : Nat} {oel ec : Nat → Nat} {m : Mu} (hr : zT t r = 8 ∧ zR t r 286 = some N ∧ r < zN t) (hN : zT t N = 7 ∧ zR t N 243 = some (N + 4) ∧ N < zN t) (hk : LA t kl kb n) (hke : ∀ k, k < n → zB t kb k = kvE oel ec k (m.2 57 k)) (hn : n ≤ 24) (hc : ∀ k x, k < n → kvE oel ec k (m.2 57 k) = some x → zT t x = 17 ∧ x < zN t) (hl : LA t (N + 4) bE 0) (hlw : LW G t (N + 4) bE) (hz : zL t bE = 0) (hne : kl ≠ N + 4) (hG : G0 G ≤ zN t) : ∃ t' b' cc nn, f7_endorsement_l219 G (some r) (some kl) (some ml) NN 0 t = some (t', cc, nn) ∧ cc ≤ 24 ∧ nn ≤ 1440 ∧ LA t' (N + 4) b' (ceO oel ec m n).length ∧ LW G t' (N + 4) b' ∧ (b' = bE ∨ zN t ≤ b') ∧ gro t t' ∧ (∀ q, q < zN t → q ≠ N + 4 → sam t t' q) ∧ ∀ i, i < (ceO oel ec m n).length → zB t' b' i = (ceO oel ec m n)[i]? := by
  have hbN := hl.2.2.2.2.2.2.2.1
  have hkbN := hk.2.2.2.2.2.2.2.1
  have hklN := hk.2.2.2.2.2.2.1
  have key : ∀ (d fuel k : Nat) (t1 : Sg) (b1 : Nat), k + d = n → d < fuel → (LA t1 (N + 4) b1 (ceO oel ec m k).length ∧ LW G t1 (N + 4) b1 ∧ (b1 = bE ∨ zN t ≤ b1) ∧ gro t t1 ∧ (∀ q, q < zN t → q ≠ N + 4 → sam t t1 q) ∧ ∀ i, i < (ceO oel ec m k).length → zB t1 b1 i = (ceO oel ec m k)[i]?) → ∃ t' b' cc nn, f7_endorsement_l219 G (some r) (some kl) (some ml) fuel (k : Int) t1 = some (t', cc, nn) ∧ cc ≤ d ∧ nn ≤ 60 * d ∧ LA t' (N + 4) b' (ceO oel ec m n).length ∧ LW G t' (N + 4) b' ∧ (b' = bE ∨ zN t ≤ b') ∧ gro t t' ∧ (∀ q, q < zN t → q ≠ N + 4 → sam t t' q) ∧ ∀ i, i < (ceO oel ec m n).length → zB t' b' i = (ceO oel ec m n)[i]? := by
    intro d
    induction d with
    | zero =>
      intro fuel k t1 b1 hk' hf hI
      obtain ⟨fuel, rfl⟩ : ∃ x, fuel = x + 1 := ⟨fuel - 1, by omega⟩
      have e : k = n := by omega
      subst e
      have skl := hI.2.2.2.2.1 kl hklN hne
      have skb := hI.2.2.2.2.1 kb hkbN (fun e => by have := hl.1; rw [← e, hk.2.2.2.1] at this; exact absurd this (by decide))
      have hk1 := LA_sam hk skl skb hI.2.2.2.1.1 (fun x hx => (hI.2.2.2.1.2 x hx).1)
      refine ⟨t1, b1, 0, 0, ?_, Nat.le_refl _, Nat.le_refl _, hI⟩
      rw [f7_endorsement_l219.eq_2, ztg_e hk1.1, Option.bind_some, J_size hk1, Option.bind_some, if_pos (Int.le_refl _)]
    | succ d ih =>
      intro fuel k t1 b1 hk' hf hI
      obtain ⟨fuel, rfl⟩ : ∃ x, fuel = x + 1 := ⟨fuel - 1, by omega⟩
      obtain ⟨h1, h2, h3, h4, h5, h6⟩ := id hI
      have skl := h5 kl hklN hne
      have skb := h5 kb hkbN (fun e => by have := hl.1; rw [← e, hk.2.2.2.1] at this; exact absurd this (by decide))
      have hk1 := LA_sam hk skl skb h4.1 (fun x hx => (h4.2 x hx).1)
      have hkn : k < n := by omega
      have eB : zB t1 kb k = kvE oel ec k (m.2 57 k) := by rw [skb.2.2.2.2.2]; exact hke k hkn
      have h41 := h4.1
      have es : ceO oel ec m (k + 1) = ceO oel ec m k ++ (match kvE oel ec k (m.2 57 k) with | none => [] | some x => [x]) := by
        simp only [ceO]
        unfold kvE
        by_cases z1 : m.2 57 k = -1
        · rw [if_pos z1, if_pos z1]
        · rw [if_neg z1, if_neg z1]
          by_cases z2 : m.2 57 k < 0
          · rw [if_pos z2, if_pos z2]
          · rw [if_neg z2, if_neg z2]
      rw [f7_endorsement_l219.eq_2, ztg_e hk1.1, Option.bind_some, J_size hk1, Option.bind_some, w32_n (by omega), w32_n (by omega), if_neg (by omega), Option.bind_some, J_get hk1 k rfl hkn, Option.bind_some, eB]
      cases hv : kvE oel ec k (m.2 57 k) with
      | none =>
        rw [if_pos rfl]
        rw [hv] at es
        have es : ceO oel ec m (k + 1) = ceO oel ec m k := by rw [es, List.append_nil]
        have := ih fuel (k + 1) t1 b1 (by omega) (by omega) (by rw [es]; exact hI)
        obtain ⟨t', b', cc, nn, q1, q2, q3, q4⟩ := this
        exact ⟨t', b', cc, nn, q1, by omega, by omega, q4⟩
      | some x =>
        obtain ⟨x1, x2⟩ := hc k x hkn hv
        rw [hv] at es
        have es : ceO oel ec m (k + 1) = ceO oel ec m k ++ [x] := es
        have hlen : (ceO oel ec m (k + 1)).length = (ceO oel ec m k).length + 1 := by rw [es]; simp
        have hle := ceO_len (oel := oel) (ec := ec) (m := m) k
        have sN := h5 N hN.2.2 (by omega)
        have sr := h5 r hr.2.2 (fun e => by have := hl.1; rw [← e, hr.1] at this; exact absurd this (by decide))
        have sx := h5 x x2 (fun e => by have := hl.1; rw [← e, x1] at this; exact absurd this (by decide))
        have Tx : zT t1 x = 17 := by rw [sx.1]; exact x1
        rw [if_neg (by simp), gfR_v (r := some N) (by rw [sr.1]; exact hr.1) (by rw [sr.2.2.2.1]; exact hr.2.1), Option.bind_some, gfR_v (r := some (N + 4)) (by rw [sN.1]; exact hN.1) (by rw [sN.2.2.2.1]; exact hN.2.1), Option.bind_some, Option.bind_some, J_get hk1 k rfl hkn, Option.bind_some, eB, hv, zcast_1 Tx, Option.bind_some, ztg_e h1.1, Option.bind_some]
        obtain ⟨b2, t3, ⟨⟨⟨v1, v2⟩, ca, na⟩, e1, e2, e3, e4⟩, p1, p2, p3, p4, p5, p6, p7, p8⟩ := J_add (v := some x) h1 h2 (by show G0 G ≤ zN t1; omega) (by omega) shr32_1 (fun y hy => by cases hy; exact ⟨by rw [Tx]; decide, by omega⟩)
        simp only at e2 e3 e4
        cases e2
        have hb2 : zN t ≤ b2 := by
          rcases p5 with q | q
          · rcases h3 with y | y
            · have hz2 := p1.2.2.2.2.1
              rw [q, (p6.2 b1 h1.2.2.2.2.2.2.2.1).2, y, (h4.2 bE hbN).2, hz] at hz2; omega
            · omega
          · omega
        have := ih fuel (k + 1) t3 b2 (by omega) (by omega) ⟨by rw [hlen]; exact p1, p2, Or.inr hb2, gro_tr h4 p6, fun q q1 q2 => sam_tr (h5 q q1 q2) (p8 q q2 (by omega)), fun i hi => by
          rw [hlen] at hi
          rw [es]
          by_cases z : i < (ceO oel ec m k).length
          · rw [p3 i z, h6 i z, List.getElem?_append_left z]
          · rw [show i = (ceO oel ec m k).length by omega, p4, List.getElem?_append_right (Nat.le_refl _), Nat.sub_self]; rfl⟩
        obtain ⟨t', b', cc, nn, q1, q2, q3, q4⟩ := this
        refine ⟨t', b', cc + ca, nn + na, ?_, by omega, by omega, q4⟩
        rw [e1, bdU_e]
        dsimp only
        have q1 : f7_endorsement_l219 G (some r) (some kl) (some ml) fuel ((k : Int) + 1) t3 = some (t', cc, nn) := q1
        rw [q1]; rfl
  obtain ⟨t', b', cc, nn, q1, q2, q3, q4⟩ := key n NN 0 t bE (by omega) (NN_gt (by omega)) ⟨hl, hlw, Or.inl rfl, gro_rf, fun _ _ _ => sam_rf, fun i hi => absurd hi (Nat.not_lt_zero _)⟩
  exact ⟨t', b', cc, nn, q1, by omega, by omega, q4⟩
theorem b316_f {G : CG} {u : Sg} {r o : Nat} {P : Int} (hG : G0 G ≤ zN u) (hr : r < zN u ∧ zT u r = 8 ∧ zR u r 290 = some o) (ho : o < zN u) (h8 : zT u o = 1) (hP : zI u o 2 = P) : ∃ u', f7_endorsement_b316 G (some r) u = some ((.inl (zN u), u'), 1, 8) ∧ FLT u (zN u) 6 P u' := by
  obtain ⟨u', e, hf⟩ := c_flt7 (α := Unit) (G := G) (u := u) (o := o) (K := 6) (P := P) hG ho h8 hP
  refine ⟨u', ?_, hf⟩
  unfold f7_endorsement_b316
  show ((gfR (znew u 9 0) 8 290 (some r)).bind _).map _ = _
  rw [gfR_v (r := some o) (by rw [znew_T, if_neg (by omega)]; exact hr.2.1) (by rw [znew_R, if_neg (by omega)]; exact hr.2.2), Option.bind_some]
  exact e
/-- all clauses stand in the wording's list -/
theorem e_kend {G : CG} {t : Sg} {N r o kl kb ml mb bE n K : Nat} {oel ec : Nat → Nat} {m : Mu} {mo : List Nat} {T P : Int} (hr : zT t r = 8 ∧ zR t r 286 = some N ∧ r < zN t ∧ zR t r 290 = some o) (hN : zT t N = 7 ∧ zR t N 243 = some (N + 4) ∧ N < zN t ∧ G0 G ≤ N) (hk : LA t kl kb n) (hke : ∀ k, k < n → zB t kb k = kvE oel ec k (m.2 57 k)) (hn : n ≤ 24) (hc : ∀ k x, k < n → kvE oel ec k (m.2 57 k) = some x → zT t x = 17 ∧ x < zN t) (hl : LA t (N + 4) bE 0) (hlw : LW G t (N + 4) bE) (hz : zL t bE = 0) (hne : kl ≠ N + 4 ∧ ml ≠ N + 4) (hG : G0 G ≤ zN t) (hm : LA t ml mb mo.length) (hme : ∀ i, i < mo.length → zB t mb i = mo[i]?) (hmc : ∀ x ∈ mo, zT t x = 17 ∧ x < zN t) (hmo : mo.length ≤ 171) (hT : T = zI t N 248 + lsm (fun k => zI t (((ceO oel ec m n ++ mo)[k]?).getD 0) 642) (ceO oel ec m n ++ mo).length) (hTb : -100000 ≤ T ∧ T ≤ 100000) (ho : o < zN t ∧ zT t o = 1 ∧ zI t o 2 = P ∧ o ≠ N) : ((24 < (ceO oel ec m n ++ mo).length ∨ 300 < T) ∧ ∃ e t' cc nn, KEe G r kl ml t = some ((.inl e, t'), cc, nn) ∧ cc ≤ 27 ∧ nn ≤ 2200 ∧ (zT t' e = 9 ∧ zI t' e 326 = 6 ∧ zI t' e 327 = P ∧ e < zN t') ∧ gro t t' ∧ ∀ q, q < zN t → q ≠ N → q ≠ N + 4 → sam t t' q) ∨ ((ceO oel ec m n ++ mo).length ≤ 24 ∧ T ≤ 300 ∧ ∃ t' b' cc nn, KEe G r kl ml t = some ((.inr (), t'), cc, nn) ∧ cc ≤ 26 ∧ nn ≤ 2100 ∧ gro t t' ∧ (∀ q, q < zN t → q ≠ N → q ≠ N + 4 → sam t t' q) ∧ (zT t' N = 7 ∧ zR t' N = zR t N ∧ ∀ j, j ≠ 249 → zI t' N j = zI t N j) ∧ LA t' (N + 4) b' (ceO oel ec m n ++ mo).length ∧ (b' = bE ∨ zN t ≤ b') ∧ ∀ i, i < (ceO oel ec m n ++ mo).length → zB t' b' i = (ceO oel ec m n ++ mo)[i]?) := by
  obtain ⟨t1, b1, c1, n1, e1, c1b, n1b, a1, a2, a3, a4, a5, a6⟩ := e_l219 (ml := ml) ⟨hr.1, hr.2.1, hr.2.2.1⟩ ⟨hN.1, hN.2.1, hN.2.2.1⟩ hk hke hn hc hl hlw hz hne.1 hG
  obtain ⟨A, hA⟩ : ∃ A, A = ceO oel ec m n := ⟨_, rfl⟩
  rw [← hA] at a1 a6 hT ⊢
  have hAl : A.length ≤ 24 := by have := ceO_len (oel := oel) (ec := ec) (m := m) n; rw [← hA] at this; omega
  have a41 := a4.1
  have hmlN := hm.2.2.2.2.2.2.1
  have hmbN := hm.2.2.2.2.2.2.2.1
  have hbN := hl.2.2.2.2.2.2.2.1
  have tg : ∀ {x T : Nat}, zT t x = T → T ≠ 6 → x ≠ N + 4 := fun {x T} h1 h2 e => by rw [e, hl.1] at h1; exact h2 h1.symm
  have hm1 := LA_sam hm (a5 ml hmlN hne.2) (a5 mb hmbN (tg hm.2.2.2.1 (by decide))) a41 (fun x hx => (a4.2 x hx).1)
  obtain ⟨b2, t2, ⟨⟨⟨vv, v2⟩, ca, na⟩, e2, e2', e2c, e2n⟩, p1, p2, p3, p4, p5, p6, p7, p8⟩ := J_addAll a1 a2 hm1 (by show G0 G ≤ zN t1; omega) (by omega) shr32_1
  simp only at e2' e2c e2n
  subst e2'
  have p61 := p6.1
  have S2 : ∀ q, q < zN t → q ≠ N + 4 → sam t v2 q := fun q q1 q2 => sam_tr (a5 q q1 q2) (p8 q (by omega) q2 (by
    by_cases z : q = b2
    · right
      have h1 := a1.2.2.2.2.2.2.2.1
      rcases p5 with y | y
      · rcases a3 with w | w
        · rw [z, y, w, (a4.2 bE hbN).2]; exact hz
        · omega
      · omega
    · exact Or.inl z))
  have g2 := gro_tr a4 p6
  have sN := S2 N hN.2.2.1 (tg hN.1 (by decide))
  have sr := S2 r hr.2.2.1 (tg hr.1 (by decide))
  have so := S2 o ho.1 (tg ho.2.1 (by decide))
  have sN1 := a5 N hN.2.2.1 (tg hN.1 (by decide))
  have sr1 := a5 r hr.2.2.1 (tg hr.1 (by decide))
  obtain ⟨cl, hcl⟩ : ∃ cl, cl = A ++ mo := ⟨_, rfl⟩
  rw [← hcl] at hT ⊢
  have hlen : cl.length = A.length + mo.length := by rw [hcl, List.length_append]
  rw [← hlen] at p1
  have eB : ∀ i, i < cl.length → zB v2 b2 i = cl[i]? := fun i hi => by
    by_cases z : i < A.length
    · rw [p3 i z, a6 i z, hcl, List.getElem?_append_left z]
    · have := p4 (i - A.length) (by omega)
      rw [show A.length + (i - A.length) = i by omega] at this
      rw [this, (a5 mb hmbN (tg hm.2.2.2.1 (by decide))).2.2.2.2.2, hme _ (by omega), hcl, List.getElem?_append_right (by omega)]
  have hb2 : b2 = bE ∨ zN t ≤ b2 := by
    rcases p5 with y | y
    · rw [y]; exact a3
    · right; omega
  have eKE : KEe G r kl ml t = (if 24 < (cl.length : Int) then f7_endorsement_b316 G (some r) v2 else (f6_countNodes G (some N) v2).bind fun q28 => if (w32 q28.1) ≤ 300 then some ((.inr (), q28.2), 0, 0) else f7_endorsement_b316 G (some r) q28.2).map fun r => (r.1, r.2.1 + ca + c1, r.2.2 + na + n1) := by
    unfold KEe
    rw [e1, bdU_e]
    rw [gfR_v (r := some N) (by rw [sr1.1]; exact hr.1) (by rw [sr1.2.2.2.1]; exact hr.2.1), Option.bind_some, gfR_v (r := some (N + 4)) (by rw [sN1.1]; exact hN.1) (by rw [sN1.2.2.2.1]; exact hN.2.1), Option.bind_some, ztg_e a1.1, Option.bind_some, e2, bdU_e]
    dsimp only
    rw [gfR_v (r := some N) (by rw [sr.1]; exact hr.1) (by rw [sr.2.2.2.1]; exact hr.2.1), Option.bind_some, gfR_v (r := some (N + 4)) (by rw [sN.1]; exact hN.1) (by rw [sN.2.2.2.1]; exact hN.2.1), Option.bind_some, ztg_e p1.1, Option.bind_some, J_size p1, Option.bind_some, w32_n (by omega)]
    rw [Option.bind_some, ztg_e (show zT v2 N = 7 by rw [sN.1]; exact hN.1), Option.bind_some]
    generalize (if 24 < (cl.length : Int) then f7_endorsement_b316 G (some r) v2 else (f6_countNodes G (some N) v2).bind fun q28 => if (w32 q28.1) ≤ 300 then some ((.inr (), q28.2), 0, 0) else f7_endorsement_b316 G (some r) q28.2) = Z
    cases Z <;> rfl
  have hGN := hN.2.2.2
  by_cases z : 24 < cl.length
  · left
    obtain ⟨u', f1, f2⟩ := b316_f (G := G) (u := v2) (r := r) (o := o) (P := P) (by have := g2.1; omega) ⟨by have := g2.1; omega, by rw [sr.1]; exact hr.1, by rw [sr.2.2.2.1]; exact hr.2.2.2⟩ (by have := g2.1; omega) (by rw [so.1]; exact ho.2.1) (by rw [so.2.2.1]; exact ho.2.2.1)
    obtain ⟨f2a, f2b, f2c, -, f2d, f2e, f2f⟩ := f2
    have g21 := g2.1
    refine ⟨Or.inl z, zN v2, u', 1 + ca + c1, 8 + na + n1, ?_, by omega, by omega, ⟨f2a, f2b, f2c, by omega⟩, gro_tr g2 f2e, fun q q1 q2 q3 => sam_tr (S2 q q1 q3) (f2f q (by omega))⟩
    rw [eKE, if_pos (by omega), f1]; rfl
  · -- the nodes are counted
    obtain ⟨Wf, hWf⟩ : ∃ Wf : Wv, Wf = fun k j => if k = 23 then (cl.length : Int) else if k = 26 then zI v2 ((cl[j]?).getD 0) 642 else 0 := ⟨_, rfl⟩
    have nf : nC Wf = cl.length := by show (Wf 23 0).toNat = _; rw [hWf]; simp
    obtain ⟨Lf, hLf⟩ : ∃ Lf : Ly, Lf = (fun _ => 0, fun q => if q = N then 0 else 1) := ⟨_, rfl⟩
    have lf1 : ∀ q, q ≠ N → Lf.2 q = 1 := fun q hq => by rw [hLf]; exact if_neg hq
    have hmem : ∀ i, i < cl.length → zT t ((cl[i]?).getD 0) = 17 ∧ (cl[i]?).getD 0 < zN t := fun i hi => by
      rw [List.getElem?_eq_getElem hi]
      show zT t cl[i] = 17 ∧ cl[i] < zN t
      have hm := List.getElem_mem hi
      generalize cl[i] = x at hm ⊢
      rw [hcl, List.mem_append] at hm
      rcases hm with q | q
      · rw [hA] at q
        have : ∀ k, k ≤ n → ∀ x ∈ ceO oel ec m k, zT t x = 17 ∧ x < zN t := by
          intro k
          induction k with
          | zero => intro _ x hx; cases hx
          | succ k ih =>
            intro hk x hx
            simp only [ceO] at hx
            rcases List.mem_append.mp hx with y | y
            · exact ih (by omega) x y
            · refine hc k x (by omega) ?_
              unfold kvE
              by_cases w1 : m.2 57 k = -1
              · rw [if_pos w1] at y ⊢; rw [List.mem_singleton.mp y]
              · rw [if_neg w1] at y ⊢
                by_cases w2 : m.2 57 k < 0
                · rw [if_pos w2] at y; cases y
                · rw [if_neg w2] at y ⊢; rw [List.mem_singleton.mp y]
        exact this n (Nat.le_refl _) x q
      · exact hmc x q
    have hcn := c_countN (G := G) (L := Lf) (u := v2) (W := Wf) (a := N) (l := N + 4) (el := fun i => (cl[i]?).getD 0) (by rw [sN.1]; exact hN.1) hN.2.2.2 (by rw [hLf]; show (if N = N then 0 else 1) ≠ 1; rw [if_pos rfl]; decide) (by omega) (by rw [sN.2.2.2.1]; exact hN.2.1) ⟨b2, by rw [nf]; exact p1, lf1 _ (by omega), lf1 _ (fun e => by have := p1.2.2.2.1; rw [e, sN.1, hN.1] at this; exact absurd this (by decide)), fun i hi => by rw [nf] at hi; rw [eB i hi]; show cl[i]? = some ((cl[i]?).getD 0); rw [List.getElem?_eq_getElem hi]; rfl⟩ (fun k hk => by
      rw [nf] at hk
      obtain ⟨w1, w2⟩ := hmem k hk
      have s := S2 _ w2 (tg w1 (by decide))
      refine ⟨lf1 _ (fun e => by rw [e, hN.1] at w1; exact absurd w1 (by decide)), by rw [s.1]; exact w1, ?_⟩
      rw [hWf]; simp)
    have eT : zI v2 N 248 + lsm (fun k => Wf 26 k - Wf 25 k) (nC Wf) = T := by
      rw [hT, nf, sN.2.2.1]
      congr 1
      refine lsm_cg (fun k hk => ?_)
      obtain ⟨w1, w2⟩ := hmem k hk
      rw [hWf, ← (S2 _ w2 (tg w1 (by decide))).2.2.1]; simp
    rw [eT] at hcn
    obtain ⟨v3, hv3⟩ : ∃ v3, v3 = zsI v2 N 249 T := ⟨_, rfl⟩
    rw [← hv3] at hcn
    have s3 : ∀ q, q ≠ N → sam v2 v3 q := fun q hq => by rw [hv3]; exact sam_zsI sam_rf hq
    have g23 : gro v2 v3 := ⟨by rw [hv3]; exact Nat.le_refl _, fun x _ => ⟨by rw [hv3]; rfl, by rw [hv3]; rfl⟩⟩
    have S3 : ∀ q, q < zN t → q ≠ N → q ≠ N + 4 → sam t v3 q := fun q q1 q2 q3 => sam_tr (S2 q q1 q3) (s3 q q2)
    have g3 := gro_tr g2 g23
    have g31 := g3.1
    rw [hcn, Option.bind_some] at eKE
    dsimp only at eKE
    rw [w32_id (x := T) (by omega) (by omega), if_neg (by omega)] at eKE
    by_cases z2 : T ≤ 300
    · right
      rw [if_pos z2] at eKE
      refine ⟨by omega, z2, v3, b2, 0 + ca + c1, 0 + na + n1, by rw [eKE]; rfl, by omega, by omega, g3, S3, ⟨by rw [hv3]; show zT v2 N = 7; rw [sN.1]; exact hN.1, by rw [hv3]; show zR v2 N = _; exact sN.2.2.2.1, fun j hj => by rw [hv3, zsI_I, if_neg (fun q => hj q.2), sN.2.2.1]⟩, LA_sam p1 (s3 _ (by omega)) (s3 _ (fun e => by have := p1.2.2.2.1; rw [e, sN.1, hN.1] at this; exact absurd this (by decide))) g23.1 (fun x hx => (g23.2 x hx).1), hb2, fun i hi => ?_⟩
      rw [(s3 b2 (fun e => by have := p1.2.2.2.1; rw [e, sN.1, hN.1] at this; exact absurd this (by decide))).2.2.2.2.2]; exact eB i hi
    · left
      rw [if_neg z2] at eKE
      have so3 := S3 o ho.1 ho.2.2.2 (tg ho.2.1 (by decide))
      have rN : r ≠ N := fun e => by have := hr.1; rw [e, hN.1] at this; exact absurd this (by decide)
      have sr3 := S3 r hr.2.2.1 rN (tg hr.1 (by decide))
      obtain ⟨u', f1, f2⟩ := b316_f (G := G) (u := v3) (r := r) (o := o) (P := P) (by omega) ⟨by omega, by rw [sr3.1]; exact hr.1, by rw [sr3.2.2.2.1]; exact hr.2.2.2⟩ (by omega) (by rw [so3.1]; exact ho.2.1) (by rw [so3.2.2.1]; exact ho.2.2.1)
      obtain ⟨f2a, f2b, f2c, -, f2d, f2e, f2f⟩ := f2
      refine ⟨Or.inr (by omega), zN v3, u', 1 + ca + c1, 8 + na + n1, by rw [eKE, f1]; rfl, by omega, by omega, ⟨f2a, f2b, f2c, by omega⟩, gro_tr g3 f2e, fun q q1 q2 q3 => sam_tr (S3 q q1 q2 q3) (f2f q (by omega))⟩
