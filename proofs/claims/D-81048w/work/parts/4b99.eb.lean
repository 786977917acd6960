/-! ENDORSE: the state between two items -/
/-- what kept holds at k -/
def kvE (oel ec : Nat → Nat) (k : Nat) (s : Int) : Option Nat := if s = -1 then some (oel k) else if s < 0 then none else some (ec s.toNat)
/-- the cells of the clauses that stand or come in their stead; of those behind -/
def ceO (oel ec : Nat → Nat) (m : Mu) : Nat → List Nat
  | 0 => []
  | k + 1 => ceO oel ec m k ++ (if m.2 57 k = -1 then [oel k] else if m.2 57 k < 0 then [] else [ec (m.2 57 k).toNat])
def ceN (ec : Nat → Nat) (m : Mu) : Nat → List Nat
  | 0 => []
  | j + 1 => ceN ec m j ++ (if m.2 58 j = 0 then [ec j] else [])
/-- the cells of the loop: kept kl with its array kb, changed ch, more ml -/
def EB (G : CG) (r : Nat) (W : Wv) (oel : Nat → Nat) (kl kb ch ml N2 N3 : Nat) (t2 : Sg) (sk sc : Nat → Int) (mo : List Nat) (κ : Nat → Nat) (mb : Nat) (ec : Nat → Nat) (t : Sg) (m : Mu) (nc : Nat) : Prop :=
  ((gro t2 t ∧ ∀ q, q < N2 → sam t2 t q) ∧ N3 ≤ zN t ∧ (N2 ≤ r ∧ r < N3 ∧ zT t r = 8) ∧ G0 G ≤ N2) ∧
  (∀ q, κ q ≠ 0 → N3 ≤ q ∧ q < zN t) ∧
  (LA t kl kb (nC W) ∧ kb < N3 ∧ (0 < nC W → N2 ≤ kb) ∧ (N2 ≤ kl ∧ kl < N3) ∧ ∀ k, k < nC W → zB t kb k = kvE oel ec k (sk k)) ∧
  (zT t ch = 103 ∧ zL t ch = 24 ∧ (N2 ≤ ch ∧ ch < N3) ∧ ∀ k, k < nC W → zA t ch k = if sc k = -1 then 0 else 1) ∧
  (LA t ml mb mo.length ∧ LW G t ml mb ∧ (N2 ≤ ml ∧ ml < N3 ∧ ml ≠ kl) ∧ (0 < zL t mb → κ mb = 5) ∧ (zL t mb = 0 → mb < G0 G) ∧ ∀ i, i < mo.length → zB t mb i = mo[i]?) ∧
  ∀ j, j < nc → QB G κ t m W (ec j) j
theorem EB_k {G : CG} {r : Nat} {W : Wv} {oel : Nat → Nat} {kl kb ch ml N2 N3 : Nat} {t2 : Sg} {sk sc : Nat → Int} {mo : List Nat} {κ κ' : Nat → Nat} {mb : Nat} {ec : Nat → Nat} {t t' : Sg} {m m' : Mu} {nc : Nat} (h : EB G r W oel kl kb ch ml N2 N3 t2 sk sc mo κ mb ec t m nc) (hg : gro t t') (hs : ∀ q, q < zN t → q ≠ r → sam t t' q) (hr : zT t' r = zT t r) (hκ : ∀ q, κ q ≠ 0 → κ' q = κ q) (hκ2 : ∀ q, κ' q ≠ 0 → N3 ≤ q ∧ q < zN t') (hn : m.1 46 ≤ m'.1 46 ∧ ∀ k : Nat, (k : Int) < m.1 46 → ndN m' k = ndN m k) (hq : ∀ n, n < nc → m'.2 53 n = m.2 53 n ∧ m'.2 54 n = m.2 54 n ∧ m'.2 55 n = m.2 55 n) : EB G r W oel kl kb ch ml N2 N3 t2 sk sc mo κ' mb ec t' m' nc := by
  obtain ⟨⟨⟨a1, a2⟩, a3, ⟨a4, a5, a6⟩, a7⟩, b, ⟨c1, c2, c3, c4, c5⟩, ⟨d1, d2, d3, d4⟩, ⟨e1, e2, e3, e4, e5, e6⟩, f⟩ := h
  have tg : ∀ {x T : Nat}, zT t x = T → T ≠ 8 → x ≠ r := fun {x T} h1 h2 e => by rw [e, a6] at h1; exact h2 h1.symm
  have skl := hs kl (by omega) (tg c1.1 (by decide))
  have skb := hs kb (by omega) (tg c1.2.2.2.1 (by decide))
  have sch := hs ch (by omega) (tg d1 (by decide))
  have sml := hs ml (by omega) (tg e1.1 (by decide))
  have smb := hs mb e1.2.2.2.2.2.2.2.1 (tg e1.2.2.2.1 (by decide))
  have kf : KF κ κ' t t' := ⟨hg, fun q hq => ⟨hs q (b q (by omega)).2 (by have := (b q (by omega)).1; omega), by rw [hκ q (by omega)]; exact hq⟩⟩
  have hg1 := hg.1
  refine ⟨⟨⟨gro_tr a1 hg, fun q hq => sam_tr (a2 q hq) (hs q (by have := a1.1; omega) (by omega))⟩, by omega, ⟨a4, a5, by rw [hr]; exact a6⟩, a7⟩, hκ2, ⟨LA_sam c1 skl skb hg.1 (fun x hx => (hg.2 x hx).1), c2, c3, c4, fun k hk => by rw [skb.2.2.2.2.2]; exact c5 k hk⟩, ⟨by rw [sch.1]; exact d1, by rw [sch.2.1]; exact d2, d3, fun k hk => by rw [sch.2.2.2.2.1]; exact d4 k hk⟩, ⟨LA_sam e1 sml smb hg.1 (fun x hx => (hg.2 x hx).1), ⟨e2.1, fun q => e2.2.1 (by rw [← smb.2.1]; exact q), fun q => e2.2.2 (by rw [← smb.2.1]; exact q)⟩, e3, fun q => ?_, fun q => e5 (by rw [← smb.2.1]; exact q), fun i hi => by rw [smb.2.2.2.2.2]; exact e6 i hi⟩, fun j hj => QB_k kf (Nat.le_refl _) (Nat.le_refl _) (fun _ _ => rfl) hn (hq j hj) (f j hj)⟩
  have := e4 (by rw [← smb.2.1]; exact q)
  rw [hκ mb (by omega)]; exact this
/-- one more clause was read -/
theorem EB_cl {G : CG} {L : Ly} {r a v kd : Nat} {W : Wv} {oel : Nat → Nat} {kl kb ch ml N2 N3 : Nat} {t2 : Sg} {sk sc : Nat → Int} {mo : List Nat} {κ : Nat → Nat} {mb : Nat} {ec : Nat → Nat} {t t' : Sg} {m m' : Mu} {nc x c : Nat} {ns : List Nd} (h : EB G r W oel kl kb ch ml N2 N3 t2 sk sc mo κ mb ec t m nc) (hc : CLG G L r a v nc kd W t m x c t' m' ns) (hkd : kd < 3) (h46 : 0 ≤ m.1 46) (hsk : ∀ k, k < nC W → sk k < (nc : Int)) : EB G r W oel kl kb ch ml N2 N3 t2 sk sc mo (fzn κ (zN t) (zN t')) mb (fun j => if j < nc then ec j else x) t' m' (nc + 1) := by
  obtain ⟨⟨x1, x2, x3⟩, ⟨y1, y2, y3, y4, y5, y6⟩, ⟨z1, z2, z3, z4, z5, z6, z7⟩, ⟨w1, w2, w3, w4, w5⟩, fr⟩ := hc
  have b := h.2.1
  have a3 := h.1.2.1
  have hnd : m.1 46 ≤ m'.1 46 ∧ ∀ k : Nat, (k : Int) < m.1 46 → ndN m' k = ndN m k := ⟨by omega, fun k hk => z4 k (by omega)⟩
  have E1 := EB_k (κ' := fzn κ (zN t) (zN t')) h x3.1 x3.2.1 x3.2.2.1 (fun q hq => fzn_o (by have := b q hq; omega)) (fun q hq => by
    by_cases z : zN t ≤ q ∧ q < zN t'
    · exact ⟨by omega, z.2⟩
    · rw [fzn_o z] at hq
      have := b q hq; have := x3.1.1; exact ⟨by omega, by omega⟩) hnd (fun n hn => w5 n (by omega))
  obtain ⟨p1, p2, ⟨c1, c2, c3, c4, c5⟩, p4, p5, f⟩ := E1
  refine ⟨p1, p2, ⟨c1, c2, c3, c4, fun k hk => ?_⟩, p4, p5, fun j hj => ?_⟩
  · rw [c5 k hk]
    have := hsk k hk
    unfold kvE
    by_cases q1 : sk k = -1
    · rw [if_pos q1, if_pos q1]
    · rw [if_neg q1, if_neg q1]
      by_cases q2 : sk k < 0
      · rw [if_pos q2, if_pos q2]
      · rw [if_neg q2, if_neg q2]
        show _ = some (if (sk k).toNat < nc then ec (sk k).toNat else x)
        rw [if_pos (by omega)]
  · show QB G _ t' m' W (if j < nc then ec j else x) j
    by_cases q : j < nc
    · rw [if_pos q]; exact f j q
    · rw [if_neg q, show j = nc by omega]
      unfold QB
      rw [w2, w3, w4]
      refine ⟨fzn_n ⟨y2, y3⟩, y1, y4, by omega, by rw [y5]; omega, c, y6, CB_new h46 z1 z3 z6 z5⟩
/-- kept is set at i -/
theorem EB_set {G : CG} {r : Nat} {W : Wv} {oel : Nat → Nat} {kl kb ch ml N2 N3 : Nat} {t2 : Sg} {sk sc : Nat → Int} {mo : List Nat} {κ : Nat → Nat} {mb : Nat} {ec : Nat → Nat} {t : Sg} {m : Mu} {nc i : Nat} {s : Int} (h : EB G r W oel kl kb ch ml N2 N3 t2 sk sc mo κ mb ec t m nc) (hi : i < nC W) (hv : ∀ x, kvE oel ec i s = some x → zT t x ∈ OT ∧ x < zN t) : ∃ t', fJ2_set G (some kl) (i : Int) (kvE oel ec i s) t = some (zB t kb i, t') ∧ EB G r W oel kl kb ch ml N2 N3 t2 (fun k => if k = i then s else sk k) sc mo κ mb ec t' m nc ∧ (gro t t' ∧ zN t' = zN t ∧ ∀ q, q ≠ kb → sam t t' q) ∧ N2 ≤ kb := by
  obtain ⟨⟨⟨a1, a2⟩, a3, ⟨a4, a5, a6⟩, a7⟩, b, ⟨c1, c2, c3, c4, c5⟩, ⟨d1, d2, d3, d4⟩, ⟨e1, e2, e3, e4, e5, e6⟩, f⟩ := id h
  have hkb := c3 (by omega)
  have hG : G0 G ≤ kb := by omega
  have e0 := J_set (G := G) (v := kvE oel ec i s) c1 hG i rfl hi (fun x hx => (hv x hx).1)
  obtain ⟨t', ht⟩ : ∃ t', t' = zsB t kb i (kvE oel ec i s) := ⟨_, rfl⟩
  rw [← ht] at e0
  have hs : ∀ q, q ≠ kb → sam t t' q := fun q hq => by rw [ht]; exact sam_zsB sam_rf hq
  have hT : zT t' = zT t := by rw [ht]; rfl
  have hL : zL t' = zL t := by rw [ht]; rfl
  have hN : zN t' = zN t := by rw [ht]; rfl
  have hg : gro t t' := ⟨by omega, fun x _ => ⟨by rw [hT], by rw [hL]⟩⟩
  have hB : ∀ k, zB t' kb k = if k = i then kvE oel ec i s else zB t kb k := fun k => by
    rw [ht, zsB_B]
    by_cases z : k = i
    · rw [if_pos ⟨rfl, z⟩, if_pos z]
    · rw [if_neg (fun q => z q.2), if_neg z]
  have tg : ∀ {x T : Nat}, zT t x = T → T ≠ 105 → x ≠ kb := fun {x T} h1 h2 e => by rw [e, c1.2.2.2.1] at h1; exact h2 h1.symm
  have skl := hs kl (tg c1.1 (by decide))
  have sch := hs ch (tg d1 (by decide))
  have sml := hs ml (tg e1.1 (by decide))
  have hmb : mb ≠ kb := fun e => by
    by_cases z : zL t mb = 0
    · have := e5 z; omega
    · have := b mb (by rw [e4 (by omega)]; decide); omega
  have smb := hs mb hmb
  have kf : KF κ κ t t' := ⟨hg, fun q hq => ⟨hs q (by have := b q (by omega); omega), hq⟩⟩
  refine ⟨t', e0, ⟨⟨⟨gro_tr a1 hg, fun q hq => sam_tr (a2 q hq) (hs q (by omega))⟩, by omega, ⟨a4, a5, by rw [hT]; exact a6⟩, a7⟩, fun q hq => by rw [hN]; exact b q hq, ⟨?_, c2, c3, c4, fun k hk => ?_⟩, ⟨by rw [hT]; exact d1, by rw [hL]; exact d2, d3, fun k hk => by rw [sch.2.2.2.2.1]; exact d4 k hk⟩, ⟨LA_sam e1 sml smb hg.1 (fun x hx => (hg.2 x hx).1), ⟨e2.1, fun q => e2.2.1 (by rw [← smb.2.1]; exact q), fun q => e2.2.2 (by rw [← smb.2.1]; exact q)⟩, e3, fun q => e4 (by rw [← smb.2.1]; exact q), fun q => e5 (by rw [← smb.2.1]; exact q), fun i hi => by rw [smb.2.2.2.2.2]; exact e6 i hi⟩, fun j hj => QB_k kf (Nat.le_refl _) (Nat.le_refl _) (fun _ _ => rfl) ⟨Int.le_refl _, fun _ _ => rfl⟩ ⟨rfl, rfl, rfl⟩ (f j hj)⟩, ⟨hg, hN, hs⟩, hkb⟩
  · obtain ⟨q1, q2, q3, q4, q5, q6, q7, q8, q9⟩ := c1
    refine ⟨by rw [hT]; exact q1, by rw [skl.2.2.2.1]; exact q2, by rw [skl.2.2.1]; exact q3, by rw [hT]; exact q4, by rw [hL]; exact q5, by rw [hL]; exact q6, by omega, by omega, fun k x hx => ?_⟩
    rw [hB] at hx
    by_cases z : k = i
    · rw [if_pos z] at hx; rw [hT, hN]; exact hv x hx
    · rw [if_neg z] at hx; rw [hT, hN]; exact q9 k x hx
  · show zB t' kb k = kvE oel ec k (if k = i then s else sk k)
    rw [hB]
    by_cases z : k = i
    · rw [if_pos z, if_pos z, z]
    · rw [if_neg z, if_neg z]; exact c5 k hk
/-- changed is set at i -/
theorem EB_ch {G : CG} {r : Nat} {W : Wv} {oel : Nat → Nat} {kl kb ch ml N2 N3 : Nat} {t2 : Sg} {sk sc : Nat → Int} {mo : List Nat} {κ : Nat → Nat} {mb : Nat} {ec : Nat → Nat} {t : Sg} {m : Mu} {nc i : Nat} {s : Int} (h : EB G r W oel kl kb ch ml N2 N3 t2 sk sc mo κ mb ec t m nc) (hi : i < nC W) (h24 : nC W ≤ 24) (hs1 : s ≠ -1) : ∃ t', asI G.2.2.2.1 t 3 (some ch) (i : Int) (nz 1) = some t' ∧ EB G r W oel kl kb ch ml N2 N3 t2 sk (fun k => if k = i then s else sc k) mo κ mb ec t' m nc ∧ (gro t t' ∧ zN t' = zN t ∧ ∀ q, q ≠ ch → sam t t' q) ∧ N2 ≤ ch := by
  obtain ⟨⟨⟨a1, a2⟩, a3, ⟨a4, a5, a6⟩, a7⟩, b, ⟨c1, c2, c3, c4, c5⟩, ⟨d1, d2, d3, d4⟩, ⟨e1, e2, e3, e4, e5, e6⟩, f⟩ := id h
  have e0 := asI_e (G0 := G.2.2.2.1) (t := 3) (s := t) (a := ch) (i := (i : Int)) (v := nz 1) i d1 (by show G0 G ≤ ch; omega) rfl (by omega) (by omega)
  obtain ⟨t', ht⟩ : ∃ t', t' = zsA t ch i (nz 1) := ⟨_, rfl⟩
  rw [← ht] at e0
  have hs : ∀ q, q ≠ ch → sam t t' q := fun q hq => by rw [ht]; exact sam_zsA sam_rf hq
  have hT : zT t' = zT t := by rw [ht]; rfl
  have hL : zL t' = zL t := by rw [ht]; rfl
  have hN : zN t' = zN t := by rw [ht]; rfl
  have hg : gro t t' := ⟨by omega, fun x _ => ⟨by rw [hT], by rw [hL]⟩⟩
  have n1 : nz 1 = 1 := by decide
  have hA : ∀ k, zA t' ch k = if k = i then 1 else zA t ch k := fun k => by
    rw [ht, zsA_A]
    by_cases z : k = i
    · rw [if_pos ⟨rfl, z⟩, if_pos z, n1]
    · rw [if_neg (fun q => z q.2), if_neg z]
  have tg : ∀ {x T : Nat}, zT t x = T → T ≠ 103 → x ≠ ch := fun {x T} h1 h2 e => by rw [e, d1] at h1; exact h2 h1.symm
  have skl := hs kl (tg c1.1 (by decide))
  have skb := hs kb (tg c1.2.2.2.1 (by decide))
  have sml := hs ml (tg e1.1 (by decide))
  have smb := hs mb (tg e1.2.2.2.1 (by decide))
  have kf : KF κ κ t t' := ⟨hg, fun q hq => ⟨hs q (by have := b q (by omega); omega), hq⟩⟩
  refine ⟨t', e0, ⟨⟨⟨gro_tr a1 hg, fun q hq => sam_tr (a2 q hq) (hs q (by omega))⟩, by omega, ⟨a4, a5, by rw [hT]; exact a6⟩, a7⟩, fun q hq => by rw [hN]; exact b q hq, ⟨LA_sam c1 skl skb hg.1 (fun x hx => (hg.2 x hx).1), c2, c3, c4, fun k hk => by rw [skb.2.2.2.2.2]; exact c5 k hk⟩, ⟨by rw [hT]; exact d1, by rw [hL]; exact d2, d3, fun k hk => ?_⟩, ⟨LA_sam e1 sml smb hg.1 (fun x hx => (hg.2 x hx).1), ⟨e2.1, fun q => e2.2.1 (by rw [← smb.2.1]; exact q), fun q => e2.2.2 (by rw [← smb.2.1]; exact q)⟩, e3, fun q => e4 (by rw [← smb.2.1]; exact q), fun q => e5 (by rw [← smb.2.1]; exact q), fun i hi => by rw [smb.2.2.2.2.2]; exact e6 i hi⟩, fun j hj => QB_k kf (Nat.le_refl _) (Nat.le_refl _) (fun _ _ => rfl) ⟨Int.le_refl _, fun _ _ => rfl⟩ ⟨rfl, rfl, rfl⟩ (f j hj)⟩, ⟨hg, hN, hs⟩, d3.1⟩
  show zA t' ch k = if (if k = i then s else sc k) = -1 then 0 else 1
  rw [hA]
  by_cases z : k = i
  · rw [if_pos z, if_pos z, if_neg hs1]
  · rw [if_neg z, if_neg z]; exact d4 k hk
/-- more grows -/
theorem EB_add {G : CG} {r : Nat} {W : Wv} {oel : Nat → Nat} {kl kb ch ml N2 N3 : Nat} {t2 : Sg} {sk sc : Nat → Int} {mo : List Nat} {κ : Nat → Nat} {mb : Nat} {ec : Nat → Nat} {t : Sg} {m : Mu} {nc x : Nat} (h : EB G r W oel kl kb ch ml N2 N3 t2 sk sc mo κ mb ec t m nc) (hx : zT t x ∈ OT ∧ x < zN t) (hm : mo.length ≤ 1000) : ∃ t' κ' mb' ca na, fJ2_add G (some ml) (some x) t = some ((1, t'), ca, na) ∧ ca ≤ 1 ∧ na ≤ 2 * mo.length + 12 ∧ EB G r W oel kl kb ch ml N2 N3 t2 sk sc (mo ++ [x]) κ' mb' ec t' m nc ∧ (gro t t' ∧ ∀ q, q < N3 → q ≠ ml → (G0 G ≤ q ∨ q < G0 G) → sam t t' q) := by
  obtain ⟨⟨⟨a1, a2⟩, a3, ⟨a4, a5, a6⟩, a7⟩, b, ⟨c1, c2, c3, c4, c5⟩, ⟨d1, d2, d3, d4⟩, ⟨e1, e2, e3, e4, e5, e6⟩, f⟩ := id h
  obtain ⟨b', t', ⟨rr, r1, r2, r3, r4⟩, q1, q2, q3, q4, q5, q6, q7, q8⟩ := J_add (v := some x) e1 e2 (by show G0 G ≤ zN t; omega) (by omega) shr32_1 (fun y hy => by cases hy; exact hx)
  obtain ⟨⟨rv, ru⟩, ca, na⟩ := rr
  simp only at r2 r3 r4
  cases r2
  have hmbN := e1.2.2.2.2.2.2.2.1
  have hb' : (b' = mb ∧ κ mb = 5) ∨ b' = zN t := by
    rcases q5 with q | q
    · left
      have hz := q1.2.2.2.2.1
      rw [q, (q6.2 mb hmbN).2] at hz
      exact ⟨q, e4 (by omega)⟩
    · exact Or.inr q
  have hbN3 : N3 ≤ b' := by
    rcases hb' with ⟨q, k⟩ | q
    · rw [q]; exact (b mb (by omega)).1
    · omega
  obtain ⟨κ', hκ⟩ : ∃ κ' : Nat → Nat, κ' = fun q => if q = b' then 5 else κ q := ⟨_, rfl⟩
  have k1 : κ' b' = 5 := by rw [hκ]; exact if_pos rfl
  have k2 : ∀ q, q ≠ b' → κ' q = κ q := fun q hq => by rw [hκ]; exact if_neg hq
  have low : ∀ q, q < N3 → q ≠ ml → sam t t' q := fun q h1 h2 => q8 q h2 (by omega)
  have skl := low kl c4.2 (fun e => e3.2.2 e.symm)
  have skb := low kb c2 (fun e => by have := e1.1; rw [← e, c1.2.2.2.1] at this; exact absurd this (by decide))
  have sch := low ch d3.2 (fun e => by have := e1.1; rw [← e, d1] at this; exact absurd this (by decide))
  have kf : KF κ κ' t t' := ⟨q6, fun q hq => by
    have hqb : q ≠ b' := fun e => by
      rcases hb' with ⟨z, k⟩ | z
      · rw [e, z, k] at hq; exact absurd hq (by decide)
      · have := (b q (by omega)).2; omega
    exact ⟨q8 q (by have := (b q (by omega)).1; omega) hqb, by rw [k2 q hqb]; exact hq⟩⟩
  have hN := q6.1
  have hbN' := q1.2.2.2.2.2.2.2.1
  have hlen : (mo ++ [x]).length = mo.length + 1 := by simp
  refine ⟨t', κ', b', ca, na, r1, r3, r4, ⟨⟨⟨gro_tr a1 q6, fun q hq => sam_tr (a2 q hq) (low q (by omega) (by omega))⟩, by omega, ⟨a4, a5, ?_⟩, a7⟩, fun q hq => ?_, ⟨LA_sam c1 skl skb q6.1 (fun x hx => (q6.2 x hx).1), c2, c3, c4, fun k hk => by rw [skb.2.2.2.2.2]; exact c5 k hk⟩, ⟨by rw [sch.1]; exact d1, by rw [sch.2.1]; exact d2, d3, fun k hk => by rw [sch.2.2.2.2.1]; exact d4 k hk⟩, ⟨by rw [hlen]; exact q1, q2, e3, fun _ => k1, fun q => ?_, fun i hi => ?_⟩, fun j hj => QB_k kf (Nat.le_refl _) (Nat.le_refl _) (fun _ _ => rfl) ⟨Int.le_refl _, fun _ _ => rfl⟩ ⟨rfl, rfl, rfl⟩ (f j hj)⟩, q6, fun q h1 h2 _ => low q h1 h2⟩
  · have := low r a5 (fun e => by have := e1.1; rw [← e, a6] at this; exact absurd this (by decide))
    rw [this.1]; exact a6
  · by_cases z : q = b'
    · rw [z]; exact ⟨hbN3, hbN'⟩
    · rw [k2 q z] at hq
      have := b q hq; exact ⟨this.1, by omega⟩
  · have := q1.2.2.2.2.1; omega
  · rw [hlen] at hi
    by_cases z : i < mo.length
    · rw [q3 i z, e6 i z, List.getElem?_append_left z]
    · rw [show i = mo.length by omega, q4, List.getElem?_append_right (Nat.le_refl _), Nat.sub_self]; rfl
