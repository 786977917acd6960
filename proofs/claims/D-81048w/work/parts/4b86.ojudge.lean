/-! THE CALL judge -/
theorem NDS_2 {m m' : Mu} (h : m'.2 = m.2) : ∀ (ns : List Nd) (k : Nat), NDS m k ns → NDS m' k ns := by
  have e : ∀ k, ndN m' k = ndN m k := fun k => nd_of (fun j _ => by rw [h]) k
  intro ns
  induction ns with
  | nil => intro k hk; exact hk
  | cons q ns ih => intro k hk; exact ⟨by rw [e]; exact hk.1, ih _ hk.2⟩
/-- new cells, and another law -/
theorem RC_f4 {G : CG} {L : Ly} {u t : Sg} {m : Mu} (h : RC G L u m) (hg : gro u t) (hs : ∀ q, q < zN u → q ≠ L.1 3 → sam u t q) (h3 : zT t (L.1 3) = zT u (L.1 3) ∧ zL t (L.1 3) = zL u (L.1 3) ∧ zI t (L.1 3) = zI u (L.1 3) ∧ zA t (L.1 3) = zA u (L.1 3) ∧ zB t (L.1 3) = zB u (L.1 3)) (h4 : ∀ g, g ≠ 4 → zR t (L.1 3) g = zR u (L.1 3) g) : RC G L t m := by
  have hR := h.1
  have r1 := RC_scr h (scr_R (x := zR t (L.1 3) 4) scr_rf (Or.inr ⟨rC3 hR, rfl⟩) : scr L u (zsR u (L.1 3) 4 (zR t (L.1 3) 4)))
  refine RC_ext r1 ⟨hg, fun _ _ => rfl, fun q hq => by have := hR.2.2.1 q hq; have := hg.1; omega⟩ (fun q hq => ?_) (fun _ _ => rfl)
  by_cases z : q = L.1 3
  · subst z
    refine ⟨h3.1, h3.2.1, h3.2.2.1, ?_, h3.2.2.2.1, h3.2.2.2.2⟩
    funext g
    rw [zsR_R]
    by_cases y : g = 4
    · rw [if_pos ⟨rfl, y⟩, y]
    · rw [if_neg (fun w => y w.2)]; exact h4 g y
  · have s := hs q (hR.2.2.1 q hq) z
    exact ⟨s.1, s.2.1, s.2.2.1, by rw [s.2.2.2.1]; funext g; rw [zsR_R, if_neg (fun w => z w.1)], s.2.2.2.2.1, s.2.2.2.2.2⟩
theorem m_jbad {m : Mu} {K P v1 v2 : Int} (h8 : m.1 8 = K) (h9 : m.1 9 = P) (hK : 1 ≤ K ∧ K ≤ 7) : m5_judge_b84 v1 v2 m = some (-10 - K, ms (ms m 2 0) 10 P) := by
  have e8 : w32 K = K := w32_id (by omega) (by omega)
  have e10 : w32 (-10 - K) = -10 - K := w32_id (by omega) (by omega)
  unfold m5_judge_b84 m5_ended m5_ended_b21
  rw [Option.bind_some]
  have a8 : (ms m 2 0).1 8 = K := by rw [ms_1, if_neg (by decide)]; exact h8
  have a9 : (ms m 2 0).1 9 = P := by rw [ms_1, if_neg (by decide)]; exact h9
  have b8 : (ms (ms m 2 0) 10 P).1 8 = K := by rw [ms_1, if_neg (by decide)]; exact a8
  rw [a8, e8, if_neg (by omega), a9, Option.bind_some, b8, e8, if_neg (by omega), Option.bind_some]
  dsimp only
  rw [e10, if_neg (by omega)]
theorem m_jgood {m : Mu} {v1 v2 : Int} (h8 : m.1 8 = 0) : m5_judge_b84 v1 v2 m = DJ v1 v2 (ms (ms m 2 0) 10 (-1)) := by
  unfold m5_judge_b84 m5_ended m5_ended_b21
  rw [Option.bind_some]
  have a8 : (ms m 2 0).1 8 = 0 := by rw [ms_1, if_neg (by decide)]; exact h8
  have b8 : (ms (ms m 2 0) 10 (-1)).1 8 = 0 := by rw [ms_1, if_neg (by decide)]; exact a8
  rw [a8, if_pos (by decide), Option.bind_some, b8, if_pos (by decide), Option.bind_some]
  dsimp only
  rw [if_pos (show 0 ≤ w32 0 by decide)]
  rfl
theorem jb81 {G : CG} {v0 s0 : Option Nat} {u : Sg} : f0_judge_b81 G v0 s0 u = f0_wording_b54 G v0 s0 u := rfl
/-- both ends behind a fault -/
theorem j_bad {G : CG} {L : Ly} {t : Sg} {m m' : Mu} {e : Nat} {K P v1 v2 : Int} {C S cc nn : Nat} (h : RC G L t m) (h1 : zT t e = 9) (h2 : zI t e 326 = K) (h3 : zI t e 327 = P) (hK : 1 ≤ K ∧ K ≤ 7) (h8 : m'.1 8 = K) (h9 : m'.1 9 = P) (hf : mfr (2 :: 10 :: SF7) AF7 m m') (hs : ∀ w : Nat, 1 ≤ w → (w : Int) ≤ m.1 11 → slc m' w = slc m w) (hc : cc ≤ C) (hn : nn ≤ S) : sim ((f0_judge_b81 G (some (L.1 3)) (some e) t).map fun r => (r.1, r.2.1 + cc, r.2.2 + nn)) (m5_judge_b84 v1 v2 m') (aftU G L C S) := by
  have := end_bad (w := 0) h h1 h2 h3 hK h8 h9 hf hs hc hn
  rw [m_end_bad h8 h9 hK] at this
  rw [jb81, m_jbad h8 h9 hK]
  exact this
theorem o_judge {G : CG} {L : Ly} {u : Sg} {m : Mu} (h : RC G L u m) (hT : m.1 2 ≤ 512) (v : Int) (hv : w32 v = v) : sim (f0_judge G (some (L.1 3)) v u) (m5_judge v m) (aftU G L (20 * (m.1 2).toNat + 60) (600 * (m.1 2).toNat + 15500)) := by
  have hR := h.1
  have h2 := h.2.1.2.1
  unfold f0_judge m5_judge
  refine sim_L (ztg_e (rT3 hR)) (sim_L (c_isW h hv) (sim_R (m_isW h hv) (sim_test (fun _ => sim_some ⟨rfl, Nat.zero_le _, Nat.zero_le _, L, rfl, h⟩) (fun k1 => ?_))))
  obtain ⟨w, rfl, w1, w12, w2, hM, hA⟩ := wo_at h k1
  obtain ⟨W, hW⟩ : ∃ W, slc m w = W := ⟨_, rfl⟩
  rw [hW] at hM hA
  have h4 : RC G L (zsI u (L.1 3) 3 (-1)) (ms m 10 (-1)) := RC_fp h (-1)
  refine sim_L (pfI_e (rT3 hR) (rG3 hR)) ?_
  obtain ⟨u3, hu3⟩ : ∃ u3, u3 = zsI u (L.1 3) 3 (-1) := ⟨_, rfl⟩
  rw [← hu3] at h4 ⊢
  have N3 : zN u3 = zN u := by rw [hu3]; rfl
  have s3 : ∀ q, q ≠ L.1 3 → sam u u3 q := fun q hq => by rw [hu3]; exact sam_zI hq
  have hz : ∀ (β : Type) (k : Nat × Sg → Option (β × Nat × Nat)), bdU (zNew u3 8 11) k = (k (zN u3, znew u3 8 0)).map fun r => (r.1, r.2.1 + 1, r.2.2 + 11) := fun β k => rfl
  rw [hz]
  dsimp only
  have RCz : RC G L (znew u3 8 0) (ms m 10 (-1)) := RC_ext h4 ⟨gro_new, fun _ _ => rfl, fun q hq => by have := h4.1.2.2.1 q hq; rw [znew_N]; omega⟩ (fun q hq => sam_znew sam_rf (by have := h4.1.2.2.1 q hq; omega)) (fun _ _ => rfl)
  rw [ztg_e (rT3 RCz.1), Option.bind_some, c_the RCz w1 w2, Option.bind_some]
  obtain ⟨m3, b1, b2, b3, ⟨b4, b5, b6, b7, b8, b9, b10⟩, b11⟩ := beginG h hT (t1 := u3) (fun q _ hq => s3 q hq) (by rw [hu3]; exact ⟨(rT3 hR : zT u (L.1 3) = 1), rfl, by rw [zsI_I, if_neg (fun z => absurd z.2 (by decide))]⟩) (by omega) (some (L.1 (300 + w))) (v := 300) (vv := 300) (Or.inl ⟨rfl, rfl⟩) (w : Int)
  rw [b1, Option.bind_some]
  have eTJ : (if (w32 (m3.1 4)) = 4 then
      if (w32 (m3.1 7)) < 26 then
        m5_judge_b80 w (-1) m3
      else
        if 28 < (w32 (m3.1 7)) then
          m5_judge_b80 w (-1) m3
        else
          (m5_next m3).bind fun u3 =>
          (m5_cond u3).bind fun u4 =>
          if (w32 (u4.1 8)) = 0 then
            if (w32 (u4.1 4)) = 0 then
              m5_judge_b84 w (m3.1 7) u4
            else
              (m5_cannot u4).bind fun u5 =>
              m5_judge_b84 w (m3.1 7) u5
          else
            m5_judge_b84 w (m3.1 7) u4
    else
      m5_judge_b80 w (-1) m3) = TJ w m3 := rfl
  rw [eTJ]
  have b2' : m3.1 2 = m.1 2 := b3 2 (by decide)
  have sl3 : ∀ k, slc m3 k = slc m k := fun k => by funext i j; unfold slc; rw [b2]
  have fr3 : ∀ {m'}, mfr CS7 CA7 m3 m' → mfr SF7 AF7 m m' ∧ ∀ k, slc m' k = slc m k := fun {m'} q => ⟨⟨fun k hk => by
    rw [q.1 k (fun z => hk ((by decide : ∀ k ∈ CS7, k ∈ SF7) k z)), b3 k (fun z => hk ((by decide : ∀ k ∈ [3, 4, 5, 6, 7, 8, 46, 47, 51, 52, 56], k ∈ SF7) k z))], fun k hk => by
    rw [q.2 k (fun z => hk ((by decide : ∀ k ∈ CA7, k ∈ AF7) k z)), b2]⟩, fun k => by rw [slc_fr q CA7_wid, sl3]⟩
  have fr10 : ∀ {m'}, mfr SF7 AF7 m m' → mfr (2 :: 10 :: SF7) AF7 (ms m 10 (-1)) m' := fun {m'} q => ⟨fun k hk => by
    simp only [List.mem_cons, not_or] at hk
    rw [ms_1, if_neg hk.2.1]; exact q.1 k hk.2.2, fun k hk => q.2 k hk⟩
  have l3N := hR.2.2.1 (L.1 3) (by rw [rC3 hR]; decide)
  rcases b11 with ⟨t3, c1, c2, c3, c4, c5, c6, c7, c8⟩ | ⟨e, t3, c1, c2, c3, c4, c5, c6, c7⟩
  · rw [c1, bdU_z]
    have T8 : zT t3 (zN u3) = 8 := c2.1.1.1
    show sim (Option.map _ ((ztg t3 8 (some (zN u3))).bind _)) _ _
    rw [ztg_e T8, Option.bind_some]
    have cLK : LK (ZO t3 (zN u3)) t3 (L.1 (300 + w)) W := WA_LK hM hA (gro_tr (by rw [hu3]; exact ⟨Nat.le_refl _, fun x _ => ⟨rfl, rfl⟩⟩) c4.1) (fun q hq => by
      have hqN := hR.2.2.1 q (by omega)
      refine ⟨sam_tr (s3 q (fun e => by have := rC3 hR; rw [← e, hq] at this; omega)) (c4.2 q (by omega)), by omega, by omega⟩)
    have cCX : CX G L t3 m3 (zN u3) (L.1 (300 + w)) w W := ⟨c2, c3, ⟨cLK, c6⟩, ⟨by rw [sl3]; exact hW, by omega, b6⟩, c8⟩
    have F3 : gro u3 t3 ∧ ∀ q, q < zN u3 → sam u3 t3 q := c4
    -- back to the relation
    have back : ∀ {t'}, f4r L (zN u3) t3 t' → RC G L t' (ms m 10 (-1)) := fun {t'} q => by
      have s33 := F3.2 (L.1 3) (by omega)
      refine RC_f4 h4 (gro_tr F3.1 q.1) (fun x x1 x2 => sam_tr (F3.2 x x1) (q.2.1 x (by have := F3.1.1; omega) (by omega) x2)) ⟨q.2.2.1.1.trans s33.1, q.2.2.1.2.1.trans s33.2.1, q.2.2.1.2.2.1.trans s33.2.2.1, q.2.2.1.2.2.2.1.trans s33.2.2.2.2.1, q.2.2.1.2.2.2.2.trans s33.2.2.2.2.2⟩ (fun g hg => (q.2.2.2 g hg).trans (by rw [s33.2.2.2.1]))
    rcases law7 cCX c5 b7 b8 (rG3 hR) (w : Int) with ⟨kd, c, t', cc, nn, m', ns, y1, y2, y3, ⟨y4, y5, y6, y7⟩, ⟨y8, y9⟩, ⟨y10, y11, y12, y13, y14⟩, y15, y16⟩ | ⟨e, t', cc, nn, K, P, m', kd, y1, ⟨y2, y3, y4, y5, y6⟩, y7, ⟨y8, y9, y10⟩, y11, y12, y13, y14⟩
    · rw [y1, y3, bdU_e, m_jgood y4.2.2.2.2.2]
      obtain ⟨fr, hsl⟩ := fr3 y6
      obtain ⟨mE, hmE⟩ : ∃ mE, mE = ms (ms m' 2 0) 10 (-1) := ⟨_, rfl⟩
      rw [← hmE]
      have mE1 : ∀ k, mE.1 k = if k = 10 then -1 else if k = 2 then 0 else m'.1 k := fun k => by
        rw [hmE, ms_1]
        by_cases z : k = 10
        · rw [if_pos z, if_pos z]
        · rw [if_neg z, if_neg z, ms_1]
      have mE2 : mE.2 = m'.2 := by rw [hmE]; rfl
      have slE : ∀ k, slc mE k = slc m k := fun k => by rw [← hsl k]; funext i j; unfold slc; rw [mE2]
      have RCt : RC G L t' (ms mE 2 (m.1 2)) := RC_tw (back y8) ⟨fun k hk => by
        rw [ms_1, mE1, ms_1]
        by_cases z : k = 2
        · rw [if_pos z, if_neg (by omega), z]
        · rw [if_neg z, if_neg z]
          by_cases z2 : k = 10
          · rw [if_pos z2, if_pos z2]
          · rw [if_neg z2, if_neg z2]; exact fr.1 k hk, fun k hk => by show mE.2 k = m.2 k; rw [mE2]; exact fr.2 k hk⟩ (fun k _ _ => slE k)
      have e47 : m'.1 47 = 300 := by rw [y6.1 47 (by decide)]; exact b5
      have hmd : ns.length ≤ 300 := by have := y4.2.2.2.1.2.1.2; omega
      have hcF : CA (FG L t' (slc mE w)) G t' 100 c ns := CA_sam (fun q hq => ⟨⟨by
        have hz : L.2 q = 0 := Classical.byContradiction (fun z => by have := hR.2.2.1 q z; have := hq.1; have := F3.1.1; omega)
        omega, fun z => by rw [slE, hW]; exact (hq.2.2 z).2⟩, sam_rf⟩) gro_rf _ _ _ y13
      obtain ⟨⟨ra, rc⟩, rb, q1, q2, q3, q4, q5⟩ := o_judge2 (kd := kd) RCt (by rw [mE1]; rfl) w1 (by rw [mE1, if_neg (by decide), if_neg (by decide), fr.1 11 (by decide)]; exact w2) y2 y9 hcF (by rw [slE, hW]; exact y12) (NDS_2 mE2 ns 0 y11) rfl (by rw [mE1, if_neg (by decide), if_neg (by decide)]; exact y10) hmd
      have q4 : rc = (0, 0) := q4
      subst q4
      have p5 : m'.1 5 ≤ m.1 2 := by have := y4.2.2.1.2.2; have : m'.1 2 = m.1 2 := fr.1 2 (by decide); omega
      refine ⟨(ra, 0 + cc + 1, 0 + nn + 11), rb, ?_, q2, q3, by dsimp only; omega, by dsimp only; omega, L, rfl, q5⟩
      show Option.map _ (Option.map _ (CJ G (some (L.1 3)) w kd t')) = _
      rw [q1]; rfl
    · rw [y1, y11, bdU_e]
      show sim (Option.map _ (Option.map _ ((ztg t' 9 (some e)).bind _))) _ _
      rw [ztg_e y2, Option.bind_some]
      obtain ⟨fr, hsl⟩ := fr3 y14
      have := j_bad (v1 := (w : Int)) (v2 := kd) (C := 20 * (m.1 2).toNat + 60 - 1) (S := 600 * (m.1 2).toNat + 15500 - 11) (cc := cc) (nn := nn) (back y7) y2 y3 y4 (by omega) y12 y13 (fr10 fr) (fun k _ _ => hsl k) (by omega) (by omega)
      obtain ⟨⟨pr, pc, pn⟩, pb, q1, q2, q3, q4, q5, L', q6, q7⟩ := this
      rw [q1]
      dsimp only at q3 q4 q5
      exact ⟨_, pb, rfl, q2, q3, by dsimp only; omega, by dsimp only; omega, L', q6, q7⟩
  · rw [c1, bdU_e]
    show sim (Option.map _ (Option.map _ ((ztg t3 9 (some e)).bind _))) _ _
    rw [ztg_e c2, Option.bind_some]
    obtain ⟨m', em, hm⟩ := m_cannot b10 (by rw [c7]; decide)
    rw [if_pos c7] at hm
    have eT : TJ w m3 = m5_judge_b84 w (-1) m' := by
      unfold TJ m5_judge_b80
      rw [c7, if_neg (by decide), em, Option.bind_some]
    rw [eT]
    obtain ⟨fr, hsl⟩ := fr3 hm.2.2
    have RC3 : RC G L t3 (ms m 10 (-1)) := FRo_RC h4 c6
    have := j_bad (v1 := (w : Int)) (v2 := -1) (C := 59) (S := 15489) (cc := 1) (nn := 8) RC3 c2 c3 c4 (by omega) hm.1 hm.2.1 (fr10 fr) (fun k _ _ => hsl k) (by omega) (by omega)
    obtain ⟨⟨pr, pc, pn⟩, pb, q1, q2, q3, q4, q5, L', q6, q7⟩ := this
    rw [q1]
    dsimp only at q3 q4 q5
    exact ⟨_, pb, rfl, q2, q3, by dsimp only; omega, by dsimp only; omega, L', q6, q7⟩
