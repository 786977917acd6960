/-! THE READER: brackets -/
theorem c_want {G : CG} {L : Ly} {t : Sg} {m : Mu} {r : Nat} (h : R7 G L t m r) {j : Nat} (hj : j < 10) {l : Int} (hl : l = sgC j) : (¬ (m.1 4 = 3 ∧ m.1 7 = (j : Int)) ∧ ∃ e t', f7_want G (some r) l t = some ((.inl e, t'), 1, 8) ∧ TH7 r t (m.1 5) e t' 1 8 2 (m.1 5)) ∨ ((m.1 4 = 3 ∧ m.1 7 = (j : Int)) ∧ (∀ t', f7_next G (some r) t = some ((.inr (), t'), 0, 0) → f7_want G (some r) l t = some ((.inr (), t'), 0, 0)) ∧ ∀ e t', zT t' e = 9 → f7_next G (some r) t = some ((.inl e, t'), 1, 8) → f7_want G (some r) l t = some ((.inl e, t'), 1, 8)) := by
  unfold f7_want
  rw [ztg_e h.1.1.1, Option.bind_some, c_isS h hj hl, Option.bind_some, w32_b2i]
  by_cases z : m.1 4 = 3 ∧ m.1 7 = (j : Int)
  · right
    rw [decide_eq_true z, if_neg (by decide), Option.bind_some]
    refine ⟨z, fun t' e => by rw [e, te_ok], fun e t' hT en => by rw [en, xt_tel hT]⟩
  · left
    rw [decide_eq_false z, if_pos (by rfl)]
    obtain ⟨t', e, hth⟩ := c_throw (α := Unit) h 2
    exact ⟨z, _, t', e, hth⟩
/-- behind a whole condition: the twin takes the operators off -/
theorem tw0 {G : CG} {L : Ly} {t : Sg} {m : Mu} {r : Nat} {pend S : List Int} (h : R7 G L t m r) (hn : nxP 2 m) (hP : PM m (pend ++ S)) (hp : ∀ x ∈ pend, x = 3 ∨ x = 4) (hS : S.head? ≠ some 3 ∧ S.head? ≠ some 4) : ∀ n, m5_cond_l12 (n + 1) 0 m = if w32 ((popL m pend).1 49) = 0 then some (.inl (popL m pend)) else (m5_isSign 9 (popL m pend)).bind fun x4 => if w32 x4 = 0 then some (.inr (.inl (popL m pend))) else (some (ms (popL m pend) 49 ((popL m pend).1 49 - 1))).bind fun u5 => (some (ms u5 50 (u5.1 50 - 1))).bind fun u6 => (m5_endPart u6).bind fun u7 => (m5_next u7).bind fun u8 => m5_cond_l12 n 0 u8 := fun n => by
  have hl := hP.2.2.2.2
  have hl0 := hP.2.2.2.1
  rw [List.length_append] at hl
  rw [m5_cond_l12.eq_2]
  rw [h.2.2.2.2.2, if_pos (by decide), if_pos (by decide), m_w7 h _ (by decide), Option.bind_some, decide_eq_false (hn.1 (by decide)), if_pos (by rfl), m_w7 h _ (by decide), Option.bind_some, decide_eq_false (hn.2 (by decide)), if_pos (by rfl), m_pop219 pend S m NN hP hp hS (NN_gt (by omega)), Option.bind_some]
theorem part_open {G : CG} {L : Ly} {r a w : Nat} {W : Wv} {t : Sg} {m : Mu} {S : List Int} {dp d : Nat} {X : Option Nat → Sg → Option (((Nat ⊕ Option Nat) × Sg) × Nat × Nat)} (h : PRE G L r a w W t m S dp) (y8 : m.1 4 = 3 ∧ m.1 7 = 8) (hX : dp ≤ 15 → ∀ t m S, PRE G L r a w W t m (8 :: S) (dp + 1) → OUT G L r W 2 d t m (8 :: S) (X (some r) t)) : OUT G L r W 0 (d + 1) t m S (bdU (f7_deeper G (some r) t) fun q14 => tel q14.1 (fun e15 => xth e15 q14.2) fun x16 => (ztg q14.2 8 (some r)).bind fun b17 => bdU (X (some b17) q14.2) fun q18 => tel q18.1 (fun e19 => xth e19 q18.2) fun x20 => (ztg q18.2 8 (some r)).bind fun b21 => bdU (f7_want G (some b21) 41 q18.2) fun q22 => tel q22.1 (fun e23 => xth e23 q22.2) fun x24 => (gfI q22.2 8 287 (some r)).bind fun x25 => (pfI G.2.2.2.1 q22.2 8 287 (some r) (x25 - 1)).bind fun u26 => some ((.inr x20, u26), 0, 0)) := by
  obtain ⟨g5, g46, g46', gS, g49, gSum⟩ := PRE_5 h
  obtain ⟨hCX, hPM, hJ, hd1, hd2, hd3⟩ := h
  have hR := hCX.1
  have hrN := hR.2.1.2.1
  have hl := nots_len S
  have tw : ∀ n, m5_cond_l12 (n + 1) 1 m = (m5_deeper 8 m).bind fun u20 => (m5_next u20).bind fun u21 => m5_cond_l12 n 1 u21 := fun n => by
    rw [m5_cond_l12.eq_2]
    rw [hR.2.2.2.2.2, if_pos (by decide), if_neg (by decide), m_w7 hR _ (by decide), Option.bind_some, decide_eq_false (by omega), if_pos (by rfl), m_s7 hR _ (by decide), Option.bind_some, decide_eq_true y8, if_neg (by decide)]
  have hc52 := hCX.2.1
  rcases deep7 (dp := dp) hR (by omega) (by omega) hd1 hd2 hd3 (by omega) 8 with ⟨hdp, ⟨e, t', d1, d2⟩, m2, m3, d3, d4, d5⟩ | ⟨hdp, d1, m3, d2, d3, d4, d5, d6, d7⟩
  · right; left
    refine ⟨e, t', 1, 8, 6, m.1 5, m3, 2, by rw [d1, xt_tel d2.1], d2, fun n => TC_MF (by decide) d5 (k := 1) (v' := 1) (fun n => ?_) n, Or.inl d5, by omega⟩
    rw [tw n, d3, Option.bind_some, d4, Option.bind_some]
  · have F3 : mfr CS7 CA7 m m3 := mfr_tr (mfr_up psh_fr (by decide) (by decide)) ⟨fun k hk => d4 k (by simp only [CS7, List.mem_cons, List.not_mem_nil, or_false] at hk; omega), fun k _ => by rw [d3]⟩
    have st : ∀ n, m5_cond_l12 (n + 1) 1 m = m5_cond_l12 n 1 m3 := fun n => by rw [tw n, d1, Option.bind_some, d2, Option.bind_some]
    have nd3 : ∀ j, ndN m3 j = ndN m j := fun j => by
      rw [nd_of (m := psh m 8) (fun k _ => by rw [d3]) j]
      exact nd_of (fun k hk => psh_fr.2 k (by simp; omega)) j
    have m346 : m3.1 46 = m.1 46 := by rw [d4 46 (by omega), psh_fr.1 46 (by decide)]
    have m352 : m3.1 52 = m.1 52 := by rw [d4 52 (by omega), psh_fr.1 52 (by decide)]
    have m350 : m3.1 50 = m.1 50 + 1 := by rw [d4 50 (by omega), psh_50]
    rcases d7 with ⟨t2, p1, p2, p3, p4, p5⟩ | ⟨e, t2, p1, p2, p3, p4⟩
    · rw [p1, te_ok]
      dsimp only
      rw [ztg_e p2.1.1.1, Option.bind_some]
      have hN2 := p4.1.1
      have P3 : PM m3 (8 :: S) := PM_eq (PM_psh hPM (by omega) (Or.inr (Or.inr (Or.inr rfl)))) (d4 49 (by omega)) (d4 46 (by omega)) (by rw [d3])
      have hPRE : PRE G L r a w W t2 m3 (8 :: S) (dp + 1) := ⟨CX_k hCX p2 p3 p4 F3, P3, by rw [m346]; simp only [List.length_cons]; omega, p5, by rw [m350, hd2]; omega, by omega⟩
      have hst : strip (8 :: S) = 8 :: S := by simp only [strip]; rw [if_neg (by decide)]
      have hno : nots (8 :: S) = 0 := by simp only [nots]; rw [if_neg (by decide)]
      rcases hX hdp t2 m3 S hPRE with ⟨c, t', cc, nn, m', k, pend, ns, es, x1, x2, ⟨x3, x4, x5, x6⟩, ⟨⟨y1, y2, y3⟩, ⟨y4, y5, y6⟩, ⟨y7, y8'⟩, ⟨y9, y10⟩, y11⟩, x7, x8, x9, x10⟩ | ⟨e', t', cc, nn, K, P, m', k, x1, x2, x3, x4, x5⟩ | ⟨c, t', cc, nn, m', md, k, x1, ⟨x2, x3, x4, x5, x6, x7⟩, x8, x9, x10, x11, x12, x13⟩
      · rw [hst] at y1 y10
        rw [hno] at y2 y7
        have hes : es = [] := List.length_eq_zero_iff.mp y7
        subst hes
        simp only [List.length_nil, Nat.add_zero, List.append_nil] at y4 y5
        obtain ⟨f1, f2, f3, f4⟩ := x10
        have hlP := y1.2.2.2.2
        simp only [List.length_append, List.length_cons] at hlP y10
        have tp := tw0 x3 x9 y1 x7.1 (by simp)
        obtain ⟨eP, z1, z2, z3, z4, z5, z6⟩ := popL_ok pend (8 :: S) m' y1
        have heP : eP.length = pend.length := by rw [← z1, List.length_map]
        have o9 : w32 ((popL m' pend).1 49) ≠ 0 := by
          rw [z2.1, w32_n (by simp only [List.length_cons]; omega)]; simp only [List.length_cons]; omega
        obtain ⟨kk1, kk2⟩ := tk_w x3.2.2.1
        have o : ∀ j, j ≠ 46 → j ≠ 49 → (popL m' pend).1 j = m'.1 j := fun j h1 h2 => popL_o y1 j h1 h2
        have es9 : m5_isSign 9 (popL m' pend) = some (b2i (decide (m'.1 4 = 3 ∧ m'.1 7 = 9))) := by
          have := m_isSq (m := popL m' pend) 9 (by decide) (by rw [o 4 (by decide) (by decide)]; exact kk1.2.2.1) (fun q => by rw [o 4 (by decide) (by decide)] at q; rw [o 7 (by decide) (by decide)]; exact (kk2 (by omega)).1)
          rw [o 4 (by decide) (by decide), o 7 (by decide) (by decide)] at this
          exact this
        rw [x1, te_okc]
        dsimp only
        rw [ztg_e x3.1.1.1, Option.bind_some]
        rcases c_want x3 (j := 9) (by decide) (l := 41) rfl with ⟨q9, e', t3, q1, q2⟩ | ⟨q9, q1, q2⟩
        · -- no bracket
          right; left
          have q9 : ¬ (m'.1 4 = 3 ∧ m'.1 7 = 9) := q9
          obtain ⟨m4, em, hm⟩ := m_cannot (m := popL m' pend) (by rw [o 8 (by decide) (by decide)]; exact x3.2.2.2.2.2) (by rw [o 4 (by decide) (by decide)]; exact kk1.2.2.1)
          rw [o 4 (by decide) (by decide), if_neg (show ¬ m'.1 4 = 5 by omega), o 5 (by decide) (by decide)] at hm
          have hmf : MF m m4 2 (m'.1 5) := MF_tr (mfr_tr F3 (mfr_tr y3 (popL_fr y1))) hm
          refine ⟨e', t3, 1 + cc, 8 + nn, 2, m'.1 5, m4, k + 2, by rw [q1, xt_tel q2.1]; rfl, TH7_tr (fr7_tr p4 x4) (by omega) q2 (by omega) (by omega), fun n => ?_, Or.inl hmf, by omega⟩
          rw [show n + (k + 2) = ((n + 1) + k) + 1 by omega, TC_st st, TC_st x2]
          unfold TC
          rw [tp n, if_neg o9, es9, Option.bind_some, decide_eq_false q9, if_pos (by rfl), Option.bind_some]
          show (m5_cannot (popL m' pend)).bind _ = _
          rw [em]; rfl
        · -- a bracket
          have q9 : m'.1 4 = 3 ∧ m'.1 7 = 9 := q9
          obtain ⟨mp, hmp⟩ : ∃ mp, mp = popL m' pend := ⟨_, rfl⟩
          rw [← hmp] at tp z2 z3 z4 z5 z6 o9 es9 o
          obtain ⟨u6, hu6⟩ : ∃ u6, u6 = ms (ms mp 49 (mp.1 49 - 1)) 50 ((ms mp 49 (mp.1 49 - 1)).1 50 - 1) := ⟨_, rfl⟩
          have ou : ∀ j, j ≠ 49 → j ≠ 50 → u6.1 j = mp.1 j := fun j h1 h2 => by rw [hu6, ms_1, if_neg h2, ms_1, if_neg h1]
          have u50 : u6.1 50 = mp.1 50 - 1 := by rw [hu6, ms_1, if_pos rfl, ms_1, if_neg (by decide)]
          have u49 : u6.1 49 = mp.1 49 - 1 := by rw [hu6, ms_1, if_neg (by decide), ms_1, if_pos rfl]
          have ua : u6.2 = mp.2 := by rw [hu6]; rfl
          have P6 : PM u6 S := by
            obtain ⟨w1, w2, w3, w4, w5⟩ := z2
            simp only [List.length_cons] at w1 w5
            refine ⟨by rw [u49, w1]; omega, by rw [ua]; exact w2.2, fun x hx => w3 x (List.mem_cons_of_mem _ hx), by rw [ou 46 (by decide) (by decide)]; exact w4, by rw [ou 46 (by decide) (by decide)]; omega⟩
          obtain ⟨m7, es, v1, v2, v3, v4, v5, v6, v7, v8, v9⟩ := m_endPart S u6 NN P6 (NN_gt (by omega))
          have F67 : mfr [46, 49, 50] CA7 m' m7 := mfr_tr (mfr_up z3 (by decide) (by decide)) (mfr_tr (by rw [hu6]; exact mfr_ms (mfr_ms mfr_rf (by decide)) (by decide)) (mfr_up v3 (by decide) (by decide)))
          have o7 : ∀ j, j ≠ 46 → j ≠ 49 → j ≠ 50 → m7.1 j = m'.1 j := fun j h1 h2 h3 => F67.1 j (by simp [h1, h2, h3])
          have R7' : R7 G L t' m7 r := R7_m x3 F67
          obtain ⟨m8, n1, n2, n3, n4, n5, n6, n7⟩ := next7m R7' (by rw [o7 4 (by decide) (by decide) (by decide)]; omega) (by rw [o7 52 (by decide) (by decide) (by decide), o7 5 (by decide) (by decide) (by decide)]; omega)
          rw [o7 5 (by decide) (by decide) (by decide)] at n5 n7
          have F8 : mfr CS7 CA7 m m8 := mfr_tr F3 (mfr_tr y3 (mfr_tr (mfr_up F67 (by decide) (by decide)) (mfr_up n4 (by decide) (by decide))))
          have st2 : ∀ n, m5_cond_l12 (n + (k + 2)) 1 m = m5_cond_l12 n 0 m8 := fun n => by
            rw [show n + (k + 2) = ((n + 1) + k) + 1 by omega, st, x2, tp n, if_neg o9, es9, Option.bind_some, decide_eq_true q9, if_neg (by decide), Option.bind_some, Option.bind_some, ← hu6]
            unfold m5_endPart
            rw [v1, Option.bind_some, Option.bind_some, n1, Option.bind_some]
          have P8 : PM m8 (strip S) := PM_eq v2 (n3 49 (by omega)) (n3 46 (by omega)) (by rw [n2])
          rcases n7 with ⟨t3, r1, r2, r3, r4, r5⟩ | ⟨e', t3, r1, r2, r3, r4⟩
          · left
            obtain ⟨t4, ht4⟩ : ∃ t4, t4 = zsI t3 r 287 (((dp + 1 : Nat) : Int) - 1) := ⟨_, rfl⟩
            have fr4 : fr7 r t3 t4 := by rw [ht4]; exact fr7_287
            have hd4 : zI t3 r 287 = ((dp + 1 : Nat) : Int) := by rw [r5, x5]; exact p5
            have e46 : u6.1 46 = m'.1 46 + (pend.length : Int) := by rw [ou 46 (by decide) (by decide), z4]
            have m846 : m8.1 46 = m'.1 46 + (pend.length : Int) + (nots S : Int) := by rw [n3 46 (by omega), v6, e46]
            have hT6 : (u6.1 46).toNat = (m.1 46).toNat + (ns ++ eP).length := by rw [e46, y4, m346, List.length_append, heP]; omega
            have nd8 : ∀ i, ndN m8 i = ndN m7 i := fun i => nd_of (fun k _ => by rw [n2]) i
            have nd6 : ∀ i, ndN u6 i = ndN mp i := fun i => nd_of (fun k _ => by rw [ua]) i
            have hT' : (m'.1 46).toNat = (m.1 46).toNat + ns.length := by rw [y4, m346]; omega
            refine ⟨c, t4, cc, nn, m8, k + 2, [], ns ++ eP, es, ?_, st2, ⟨R7_k r2 fr4 (fun j hj => by rw [ht4, zsI_I, if_neg (fun q => hj q.2)]), fr7_tr p4 (fr7_tr x4 (fr7_tr r4 fr4)), by rw [ht4, zsI_I, if_pos ⟨rfl, rfl⟩, hd1]; omega, r3⟩, ⟨⟨P8, ?_, F8⟩, ⟨?_, ?_, fun i hi => ?_⟩, ⟨v4, v5⟩, ⟨?_, ?_⟩, fun z hz => ?_⟩, ⟨by simp, by simp, fun _ => rfl⟩, fun qs hq => ?_, ⟨fun q => absurd q (by decide), fun q => absurd q (by decide)⟩, ?_⟩
            · rw [q1 t3 r1, te_ok]
              dsimp only
              rw [gfI_v r2.1.1.1 hd4, Option.bind_some, pfI_e r2.1.1.1 r2.1.1.2.1, Option.bind_some, ← ht4]
              simp
            · rw [n3 50 (by omega), v7, u50, o 50 (by decide) (by decide), y2, m350]; omega
            · rw [m846, y4, m346, List.length_append, heP, v4]; omega
            · rw [NDS_app, NDS_app]
              rw [m346] at y5
              refine ⟨⟨?_, ?_⟩, ?_⟩
              · refine NDS_cg ns _ (fun i i1 i2 => ?_) y5
                rw [nd8, v9 i (by rw [hT6, List.length_append]; omega), nd6, z6 i (by omega)]
              · rw [← hT']
                refine NDS_cg eP _ (fun i i1 i2 => ?_) z5
                rw [nd8, v9 i (by rw [hT6, List.length_append]; omega), nd6]
              · rw [← hT6]
                exact NDS_cg es _ (fun i _ _ => nd8 i) v8
            · rw [nd8, v9 i (by rw [hT6]; omega), nd6, z6 i (by omega), y6 i (by rw [m346]; exact hi), nd3]
            · rw [n3 52 (by omega), o7 52 (by decide) (by decide) (by decide), y9, m352, List.length_append, heP]; simp
            · rw [m846, List.nil_append]; omega
            · rcases List.mem_append.mp hz with hz | hz
              · exact y11 z hz
              · have : z.1 ∈ pend := by rw [← z1]; exact List.mem_map_of_mem hz
                have hh := x7.1 _ this
                exact ⟨by omega, by omega, fun h0 => by omega, fun h0 => by omega⟩
            · rw [List.map_eq_nil_iff.mp hq, List.append_nil]
              have hCA := x8 eP z1
              have hr2 : r < zN t2 := p2.2.1.2.1
              exact CA_le (CA_mono (FN_dn hN2) (CA_sam (FN_k hr2 (fr7_tr r4 fr4)) (fr7_tr r4 fr4).1 _ _ _ hCA)) (by omega)
            · unfold CST; omega
          · right; left
            obtain ⟨m9, s1, s2⟩ := bad0 r4 r3 P8
            refine ⟨e', t3, 1 + cc, 8 + nn, 1, m8.1 5, m9, k + 3, ?_, TH7_tr (fr7_tr p4 x4) (by omega) r2 (by omega) (by omega), fun n => ?_, MFB_tr F8 s2, by omega⟩
            · rw [q2 e' t3 r2.1 r1, xt_tel r2.1]; rfl
            · rw [show n + (k + 3) = (n + 1) + (k + 2) by omega, TC_st st2]; exact s1 n
      · right; left
        have hle := TH_K x2
        refine ⟨e', t', cc, nn, K, P, m', k + 1, by rw [x1, xt_tel x2.1], TH7_tr p4 (by omega) x2 (by omega) (by omega), fun n => ?_, MFB_tr F3 x4, by omega⟩
        rw [show n + (k + 1) = (n + k) + 1 by omega, TC_st st]; exact x3 n
      · right; left
        rw [x1, te_okc]
        dsimp only
        rw [ztg_e x2.1.1.1, Option.bind_some]
        rcases c_want x2 (j := 9) (by decide) (l := 41) rfl with ⟨q9, e', t3, q1, q2⟩ | ⟨q9, q1, q2⟩
        · refine ⟨e', t3, 1 + cc, 8 + nn, 2, md.1 5, m', k + 1, by rw [q1, xt_tel q2.1]; rfl, TH7_tr (fr7_tr p4 x4) (by omega) q2 (by omega) (by omega), fun n => ?_, Or.inl (MF_tr F3 x9), by omega⟩
          rw [show n + (k + 1) = (n + k) + 1 by omega, TC_st st]; exact x8 n
        · exfalso
          have := x3.2
          have : md.1 7 = 9 := q9.2
          omega
    · right; left
      obtain ⟨m4, z1, z2⟩ := bad1 p4 p3
      refine ⟨e, t2, 1, 8, 1, m3.1 5, m4, 3, by rw [p1, xt_tel p2.1], p2, fun n => ?_, Or.inl (MF_tr F3 z2), by omega⟩
      rw [show n + 3 = (n + 2) + 1 by omega, TC_st st]; exact z1 n
