/-! THE READER: not -/
theorem tail_not {G : CG} {L : Ly} {t : Sg} {m : Mu} {r c : Nat} {dp : Nat} (h : R7 G L t m r) (hd : zI t r 287 = ((dp + 1 : Nat) : Int)) : ∃ t4, ((gfI t 8 287 (some r)).bind fun x40 => (pfI G.2.2.2.1 t 8 287 (some r) (x40 - 1)).bind fun u41 => bdU (zNew u41 12 1) fun q42 => (f11_init G (some q42.1) (some c) q42.2).bind fun u43 => (some ((.inr (some q42.1), u43), 0, 0) : Option (((Nat ⊕ Option Nat) × Sg) × Nat × Nat))) = some ((.inr (some (zN t)), t4), 1, 1) ∧ fr7 r t t4 ∧ (∀ j, j ≠ 287 → zI t4 r j = zI t r j) ∧ zI t4 r 287 = (dp : Int) ∧ zT t4 (zN t) = 12 ∧ zR t4 (zN t) 440 = some c ∧ zN t4 = zN t + 1 := by
  obtain ⟨t3, ht3⟩ : ∃ t3, t3 = zsI t r 287 (((dp + 1 : Nat) : Int) - 1) := ⟨_, rfl⟩
  have fr3 : fr7 r t t3 := by rw [ht3]; exact fr7_287
  have N3 : zN t3 = zN t := by rw [ht3]; rfl
  have hr := h.2.1.2.1
  have hG := h.2.1.1
  obtain ⟨t4, ht4⟩ : ∃ t4, t4 = zsR (znew t3 12 0) (zN t3) 440 (some c) := ⟨_, rfl⟩
  have I4 : ∀ j, zI t4 r j = zI t3 r j := fun j => by rw [ht4, zsR_I, znew_I, if_neg (by omega)]
  refine ⟨t4, ?_, ?_, fun j hj => ?_, ?_, ?_, ?_, ?_⟩
  · rw [gfI_v h.1.1.1 hd, Option.bind_some, pfI_e h.1.1.1 h.1.1.2.1, Option.bind_some, ← ht3]
    show ((f11_init G (some (zN t3)) (some c) (znew t3 12 0)).bind fun u43 => (some ((Sum.inr (some (zN t3)), u43), 0, 0) : Option (((Nat ⊕ Option Nat) × Sg) × Nat × Nat))).map _ = _
    rw [f11_e (by rw [znew_T, if_pos rfl]) (by rw [N3]; exact hG), Option.bind_some, ← ht4, N3]
    rfl
  · rw [ht4]
    exact fr7_zsR (fr7_znew fr3 (by omega)) (by omega) (by omega)
  · rw [I4, ht3, zsI_I, if_neg (fun q => hj q.2)]
  · rw [I4, ht3, zsI_I, if_pos ⟨rfl, rfl⟩]; omega
  · rw [ht4, ← N3]; show zT (znew t3 12 0) (zN t3) = 12; rw [znew_T, if_pos rfl]
  · rw [ht4, ← N3, zsR_R, if_pos ⟨rfl, rfl⟩]
  · rw [ht4]; show zN t3 + 1 = _; rw [N3]
theorem part_not {G : CG} {L : Ly} {r a w : Nat} {W : Wv} {t : Sg} {m : Mu} {S : List Int} {dp d : Nat} {X : Option Nat → Sg → Option (((Nat ⊕ Option Nat) × Sg) × Nat × Nat)} (h : PRE G L r a w W t m S dp) (y23 : m.1 4 = 4 ∧ m.1 7 = 23) (hX : dp ≤ 15 → ∀ t m S, PRE G L r a w W t m S (dp + 1) → OUT G L r W 0 d t m S (X (some r) t)) : OUT G L r W 0 (d + 1) t m S (bdU (f7_node G (some r) t) fun q29 => tel q29.1 (fun e30 => xth e30 q29.2) fun x31 => (ztg q29.2 8 (some r)).bind fun b32 => bdU (f7_deeper G (some b32) q29.2) fun q33 => tel q33.1 (fun e34 => xth e34 q33.2) fun x35 => (ztg q33.2 8 (some r)).bind fun b36 => bdU (X (some b36) q33.2) fun q37 => tel q37.1 (fun e38 => xth e38 q37.2) fun x39 => (gfI q37.2 8 287 (some r)).bind fun x40 => (pfI G.2.2.2.1 q37.2 8 287 (some r) (x40 - 1)).bind fun u41 => bdU (zNew u41 12 1) fun q42 => (f11_init G (some q42.1) x39 q42.2).bind fun u43 => some ((.inr (some q42.1), u43), 0, 0)) := by
  obtain ⟨g5, g46, g46', gS, g49, gSum⟩ := PRE_5 h
  obtain ⟨hCX, hPM, hJ, hd1, hd2, hd3⟩ := h
  have hR := hCX.1
  have hrN := hR.2.1.2.1
  have tw : ∀ n, m5_cond_l12 (n + 1) 1 m = (m5_countNode m).bind fun u23 => (m5_deeper 2 u23).bind fun u24 => (m5_next u24).bind fun u25 => m5_cond_l12 n 1 u25 := fun n => by
    rw [m5_cond_l12.eq_2]
    rw [hR.2.2.2.2.2, if_pos (by decide), if_neg (by decide), m_w7 hR _ (by decide), Option.bind_some, decide_eq_true y23, if_neg (by decide)]
  rcases node7 hR (by omega) hCX.2.1 with ⟨t1, n1, n2, n3, n4, n5, n6⟩ | ⟨e, t', m', n1, n2, n3, n4, n5, n6⟩
  · obtain ⟨m1, hm1⟩ : ∃ m1, m1 = ms m 52 (m.1 52 + 1) := ⟨_, rfl⟩
    rw [← hm1] at n2 n3
    have o1 : ∀ j, j ≠ 52 → m1.1 j = m.1 j := fun j hj => by rw [hm1, ms_1, if_neg hj]
    have e52 : m1.1 52 = m.1 52 + 1 := by rw [hm1, ms_1, if_pos rfl]
    have F1 : mfr CS7 CA7 m m1 := by rw [hm1]; exact mfr_ms mfr_rf (by decide)
    have a12 : m1.2 = m.2 := by rw [hm1]; rfl
    rw [n1, te_ok]
    dsimp only
    rw [ztg_e n3.1.1.1, Option.bind_some]
    have hc52 := hCX.2.1
    rcases deep7 (dp := dp) n3 (by rw [o1 4 (by decide)]; omega) (by rw [e52, o1 5 (by decide)]; omega) (by rw [n6]; exact hd1) (by rw [o1 50 (by decide)]; exact hd2) hd3 (by rw [o1 49 (by decide)]; omega) 2 with ⟨hdp, ⟨e, t', d1, d2⟩, m2, m3, d3, d4, d5⟩ | ⟨hdp, d1, m3, d2, d3, d4, d5, d6, d7⟩
    · right; left
      rw [o1 5 (by decide)] at d2 d5
      have hm := MF_tr F1 d5
      refine ⟨e, t', 1, 8, 6, m.1 5, m3, 2, by rw [d1, xt_tel d2.1], TH7_tr n4 (Int.le_refl _) d2 (by omega) (by omega), fun n => TC_MF (by decide) hm (k := 1) (v' := 1) (fun n => ?_) n, Or.inl hm, by omega⟩
      rw [tw n, n2, Option.bind_some, d3, Option.bind_some, d4, Option.bind_some]
    · rw [o1 5 (by decide)] at d5 d7
      have F3 : mfr CS7 CA7 m m3 := mfr_tr F1 (mfr_tr (mfr_up psh_fr (by decide) (by decide)) ⟨fun k hk => d4 k (by simp only [CS7, List.mem_cons, List.not_mem_nil, or_false] at hk; omega), fun k _ => by rw [d3]⟩)
      have st : ∀ n, m5_cond_l12 (n + 1) 1 m = m5_cond_l12 n 1 m3 := fun n => by rw [tw n, n2, Option.bind_some, d1, Option.bind_some, d2, Option.bind_some]
      have nd3 : ∀ j, ndN m3 j = ndN m j := fun j => by
        rw [nd_of (m := psh m1 2) (fun k _ => by rw [d3]) j, nd_of (m := m1) (fun k hk => psh_fr.2 k (by simp; omega)) j]
        exact nd_of (fun k _ => by rw [a12]) j
      have m346 : m3.1 46 = m.1 46 := by rw [d4 46 (by omega), psh_fr.1 46 (by decide), o1 46 (by decide)]
      have m352 : m3.1 52 = m.1 52 + 1 := by rw [d4 52 (by omega), psh_fr.1 52 (by decide), e52]
      have m350 : m3.1 50 = m.1 50 + 1 := by rw [d4 50 (by omega), psh_50, o1 50 (by decide)]
      rcases d7 with ⟨t2, p1, p2, p3, p4, p5⟩ | ⟨e, t2, p1, p2, p3, p4⟩
      · rw [p1, te_ok]
        dsimp only
        rw [ztg_e p2.1.1.1, Option.bind_some]
        have fr2 : fr7 r t t2 := fr7_tr n4 p4
        have hN2 := fr2.1.1
        have P1 : PM m1 S := PM_eq hPM (o1 49 (by decide)) (o1 46 (by decide)) (by rw [a12])
        have P3 : PM m3 (2 :: S) := PM_eq (PM_psh P1 (by rw [o1 46 (by decide)]; omega) (Or.inl rfl)) (d4 49 (by omega)) (d4 46 (by omega)) (by rw [d3])
        have hPRE : PRE G L r a w W t2 m3 (2 :: S) (dp + 1) := ⟨CX_k hCX p2 p3 fr2 F3, P3, by rw [m346]; simp only [List.length_cons]; omega, p5, by rw [m350, hd2]; omega, by omega⟩
        have hst : strip (2 :: S) = strip S := by simp only [strip]; rw [if_pos trivial]
        have hno : nots (2 :: S) = nots S + 1 := by simp only [nots]; rw [if_pos trivial]
        rcases hX hdp t2 m3 (2 :: S) hPRE with ⟨c, t', cc, nn, m', k, pend, ns, es, x1, x2, ⟨x3, x4, x5, x6⟩, ⟨⟨y1, y2, y3⟩, ⟨y4, y5, y6⟩, ⟨y7, y8⟩, ⟨y9, y10⟩, y11⟩, x7, x8, x9, x10⟩ | ⟨e', t', cc, nn, K, P, m', k, x1, x2, x3, x4, x5⟩ | ⟨c, t', cc, nn, m', md, k, x1, ⟨x2, x3, x4, x5, x6, x7⟩, x8, x9, x10, x11, x12, x13⟩
        · left
          obtain ⟨t4, u1, u2, u3, u4, u5, u6, u7⟩ := tail_not (c := c) (dp := dp) x3 (by rw [x5]; exact p5)
          rw [x1, te_okc]
          dsimp only
          rw [u1]
          rw [hst, hno] at *
          have hp0 : pend = [] := x7.2.2 rfl
          subst hp0
          obtain ⟨q, es', rfl⟩ : ∃ q es', es = q :: es' := by
            cases es with
            | nil => simp at y7
            | cons q es' => exact ⟨q, es', rfl⟩
          simp only [List.length_cons, List.length_nil, List.nil_append, Nat.add_zero] at y4 y7 y9 y10 y1
          have hN' := x4.1.1
          refine ⟨zN t', t4, 1 + cc, 1 + nn, m', k + 1, [], ns ++ [q], es', rfl, fun n => ?_, ⟨R7_k x3 u2 u3, fr7_tr fr2 (fr7_tr x4 u2), by rw [u4, hd1], x6⟩, ⟨⟨y1, ?_, mfr_tr F3 y3⟩, ⟨?_, ?_, fun i hi => ?_⟩, ⟨by omega, fun z hz => y8 z (List.mem_cons_of_mem _ hz)⟩, ⟨?_, y10⟩, fun z hz => ?_⟩, ⟨by simp, by simp, fun _ => rfl⟩, fun qs hq => ?_, ⟨fun q => absurd q (by decide), fun q => absurd q (by decide)⟩, ?_⟩
          · rw [show n + (k + 1) = (n + k) + 1 by omega, st, x2]
          · rw [y2, m350]; omega
          · rw [y4, m346]; simp only [List.length_append, List.length_singleton]; omega
          · rw [m346] at y5; rw [List.append_assoc]; exact y5
          · rw [y6 i (by rw [m346]; exact hi), nd3]
          · rw [y9, m352]; simp only [List.length_append, List.length_singleton, List.length_nil]; omega
          · rcases List.mem_append.mp hz with hz | hz
            · exact y11 z hz
            · rw [List.mem_singleton.mp hz]
              have hq2 := y8 q List.mem_cons_self
              exact ⟨by omega, by omega, fun h0 => by omega, fun h0 => by omega⟩
          · rw [List.map_eq_nil_iff.mp hq, List.append_nil]
            have hCA := x8 [] rfl
            rw [List.append_nil] at hCA
            refine ⟨⟨by omega, by omega, fun z => absurd (u5.symm.trans z) (by decide)⟩, Or.inl ⟨u5, c, ns, q, u6, ?_, y8 q List.mem_cons_self, rfl⟩⟩
            exact CA_mono (FN_dn hN2) (CA_sam (FN_k (by have := p4.1.1; have := p2.2.1.2.1; omega) u2) u2.1 _ _ _ hCA)
          · unfold CST at x10 ⊢; omega
        · right; left
          have hle := TH_K x2
          refine ⟨e', t', cc, nn, K, P, m', k + 1, by rw [x1, xt_tel x2.1], TH7_tr fr2 (by omega) x2 (by omega) (by omega), fun n => ?_, MFB_tr F3 x4, by omega⟩
          rw [show n + (k + 1) = (n + k) + 1 by omega, TC_st st]; exact x3 n
        · right; right
          obtain ⟨t4, u1, u2, u3, u4, u5, u6, u7⟩ := tail_not (c := c) (dp := dp) x2 (by rw [x5]; exact p5)
          rw [x1, te_okc]
          dsimp only
          rw [u1]
          refine ⟨zN t', t4, 1 + cc, 1 + nn, m', md, k + 1, rfl, ⟨R7_k x2 u2 u3, x3, fr7_tr fr2 (fr7_tr x4 u2), by rw [u4, hd1], by rw [u5]; decide, by omega⟩, fun n => ?_, MF_tr F3 x9, by omega, by omega, by omega, by omega⟩
          rw [show n + (k + 1) = (n + k) + 1 by omega, TC_st st]; exact x8 n
      · right; left
        obtain ⟨m4, z1, z2⟩ := bad1 p4 p3
        refine ⟨e, t2, 1, 8, 1, m3.1 5, m4, 3, by rw [p1, xt_tel p2.1], TH7_tr n4 (Int.le_refl _) p2 (by omega) (by omega), fun n => ?_, Or.inl (MF_tr F3 z2), by omega⟩
        rw [show n + 3 = (n + 2) + 1 by omega, TC_st st]; exact z1 n
  · right; left
    obtain ⟨m2, m3, k1, k2, k3, k4, k5⟩ := deepF (m1 := m') hR (n5 2 (by decide) (by decide) (by decide)) (n5 3 (by decide) (by decide) (by decide)) (by rw [n6]) (by rw [n6]) (by rw [n5 49 (by decide) (by decide) (by decide)]; omega) n4.1 2
    have hm : MF m m3 6 (m.1 5) := ⟨by rw [k3]; exact n4.1, by rw [k4]; exact n4.2.1, mfr_tr n4.2.2 k5⟩
    refine ⟨e, t', 1, 8, 6, m.1 5, m3, 2, by rw [n1, xt_tel n2.1], n2, fun n => TC_MF (by decide) hm (k := 1) (v' := 1) (fun n => ?_) n, Or.inl hm, by omega⟩
    rw [tw n, n3, Option.bind_some, k1, Option.bind_some, k2, Option.bind_some]
