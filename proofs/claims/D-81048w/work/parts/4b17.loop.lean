/-! THE READER: the loop over ands or ors -/
theorem te_bad {α β : Type} {e : Nat} {u : Sg} {c n : Nat} {K : (Nat ⊕ α) × Sg → α → Option (((Nat × Sg) ⊕ β) × Nat × Nat)} : (bdU (some (((.inl e : Nat ⊕ α), u), c, n)) fun q => tel q.1 (fun e5 => some (.inl (e5, q.2), 0, 0)) fun y => K q y) = some (.inl (e, u), c, n) := by
  unfold bdU tel
  simp
theorem strip_id {S : List Int} (h : S.head? ≠ some 2) : strip S = S ∧ nots S = 0 := by
  cases S with
  | nil => exact ⟨rfl, rfl⟩
  | cons x S =>
    have hx : x ≠ 2 := fun q => h (by rw [q]; rfl)
    simp only [strip, nots]
    rw [if_neg hx, if_neg hx]
    exact ⟨rfl, rfl⟩
def LGD (G : CG) (L : Ly) (r a w : Nat) (W : Wv) (lv d dp : Nat) (S : List Int) (t0 : Sg) (m0 : Mu) (x : Nat) (m : Mu) (y : Option (((Nat × Sg) ⊕ Sg) × Nat × Nat)) : Prop := ∃ u' cc nn m' k l b n el pend ns, y = some (.inr u', cc, nn) ∧ (∀ n, m5_cond_l12 (n + k) 0 m = m5_cond_l12 n 0 m') ∧ LI G W (zN t0) lv d u' x l b n el pend ns ∧ (CX G L u' m' r a w W ∧ fr7 r t0 u' ∧ zI u' r 287 = (dp : Int)) ∧ MADE W m0 m' S pend ns [] ∧ okP (lv + 1) pend ∧ nxP (lv + 1) m' ∧ n ≤ 5000 ∧ ((m' = m ∧ k = 0 ∧ cc = 0 ∧ nn = 0) ∨ (m.1 5 < m'.1 5 ∧ (k : Int) ≤ m'.1 5 - m.1 5 ∧ (cc : Int) + 20 ≤ 20 * (m'.1 5 - m.1 5) ∧ (nn : Int) + 300 ≤ 600 * (m'.1 5 - m.1 5)))
def LTH (r : Nat) (t0 : Sg) (m0 m : Mu) (y : Option (((Nat × Sg) ⊕ Sg) × Nat × Nat)) : Prop := ∃ e' u' cc nn K P m' k, y = some (.inl (e', u'), cc, nn) ∧ TH7 r t0 (m.1 5) e' u' cc nn K P ∧ (∀ n, TC (n + k) 0 m = some m') ∧ MFB m0 m' K P ∧ (k : Int) ≤ P - m.1 5 + 3
def LDM (G : CG) (L : Ly) (r dp : Nat) (t0 : Sg) (m0 : Mu) (x : Nat) (m : Mu) (y : Option (((Nat × Sg) ⊕ Sg) × Nat × Nat)) : Prop := ∃ u' cc nn m' md k, y = some (.inr u', cc, nn) ∧ (R7 G L u' md r ∧ tst md ∧ fr7 r t0 u' ∧ zI u' r 287 = (dp : Int) ∧ zT u' x = 16 ∧ x < zN u') ∧ (∀ n, TC (n + k) 0 m = some m') ∧ MF m0 m' 2 (md.1 5) ∧ (k : Int) ≤ md.1 5 - m.1 5 + 3 ∧ m.1 5 < md.1 5 ∧ (cc : Int) ≤ 20 * (md.1 5 - m.1 5) ∧ (nn : Int) ≤ 600 * (md.1 5 - m.1 5)
/-- the word of a level -/
abbrev cwL (lv : Nat) : Int := (enc 256 (wdC (22 - lv)) : Nat)
/-- adding to the list of parts keeps the rest -/
theorem add7 {G : CG} {L : Ly} {W : Wv} {r N0 n l b c lv d : Nat} {t0 t : Sg} {m : Mu} {x : Nat} (hR : R7 G L t m r) (hr0 : r < zN t0 ∧ L.1 3 < zN t0 ∧ L.1 100 < zN t0 ∧ L.1 101 < zN t0) (hN0 : N0 = zN t0) (hx : zT t x = 16 ∧ x < zN t) (hLA : LA t l b n) (hLW : LW G t l b) (hl : N0 ≤ l) (hb : n = 0 ∨ N0 ≤ b) (hz : n = 0 → zL t b = 0) (hn : n ≤ 5000) (hc : zT t c ∈ OT ∧ c < zN t) : ∃ b' t2 ca na, fJ2_add G (some l) (some c) t = some ((1, t2), ca, na) ∧ ca ≤ 1 ∧ na ≤ 2 * n + 12 ∧ LA t2 l b' (n + 1) ∧ LW G t2 l b' ∧ N0 ≤ b' ∧ (∀ i, i < n → zB t2 b' i = zB t b i) ∧ zB t2 b' n = some c ∧ gro t t2 ∧ (∀ q, q < N0 → sam t t2 q) ∧ sam t t2 x ∧ (∀ q, q < zN t → q ≠ l → q ≠ b → sam t t2 q ∧ q ≠ b') ∧ R7 G L t2 m r := by
  obtain ⟨b', t2, ⟨rr, e1, e2, e3, e4⟩, a1, a2, a3, a4, a5, a6, a7, a8⟩ := J_add (v := some c) hLA hLW hR.2.1.1 (by omega) shr32_1 (fun x hx => by cases hx; exact hc)
  obtain ⟨⟨r1, r2⟩, r3, r4⟩ := rr
  simp only at e2 e3 e4
  cases e2
  have hb5 := hLA.2.2.2.1
  have hbN := hLA.2.2.2.2.2.2.2.1
  have hl6 := hLA.1
  have hb' : N0 ≤ b' := by
    rcases a5 with q | q
    · rcases hb with h0 | h0
      · exfalso
        have h1 := a1.2.2.2.2.1
        rw [q, (a6.2 b hbN).2, hz h0] at h1
        omega
      · omega
    · have : N0 ≤ zN t := by have := hl; have := hLA.2.2.2.2.2.2.1; omega
      omega
  have keep : ∀ q, q < zN t → q ≠ l → q ≠ b → sam t t2 q ∧ q ≠ b' := fun q h1 h2 h3 => by
    have hne : q ≠ b' := by
      rcases a5 with z | z
      · rw [z]; exact h3
      · omega
    exact ⟨a8 q h2 hne, hne⟩
  have old : ∀ q, q < N0 → sam t t2 q := fun q hq => a8 q (by omega) (by omega)
  refine ⟨b', t2, r3, r4, e1, e3, e4, a1, a2, hb', a3, a4, a6, old, ?_, keep, R7_y hR old a6 (by rw [hN0]; exact hr0)⟩
  refine a8 x (fun q => by rw [q, hl6] at hx; exact absurd hx.1 (by decide)) (fun q => ?_)
  rcases a5 with z | z
  · rw [q, z, hb5] at hx; exact absurd hx.1 (by decide)
  · omega
theorem mrow_cg {rows rows' : Nat → List Nd} {qs qs' : Nat → Nd} : ∀ k, (∀ i, i ≤ k → rows' i = rows i) → (∀ i, i ≤ k → qs' i = qs i) → mrow rows' qs' k = mrow rows qs k := by
  intro k
  induction k with
  | zero => intro h _; exact h 0 (Nat.le_refl _)
  | succ k ih =>
    intro h1 h2
    show mrow rows' qs' k ++ rows' (k + 1) ++ [qs' (k + 1)] = mrow rows qs k ++ rows (k + 1) ++ [qs (k + 1)]
    rw [ih (fun i hi => h1 i (by omega)) (fun i hi => h2 i (by omega)), h1 _ (Nat.le_refl _), h2 _ (Nat.le_refl _)]
theorem loop7 {G : CG} {L : Ly} {r a w : Nat} {W : Wv} {lv d dp : Nat} {S : List Int} {t0 : Sg} {m0 : Mu} {x : Nat} {rc : RC7} {X : Sg → Option (((Nat ⊕ Option Nat) × Sg) × Nat × Nat)} (hlv : lv ≤ 1) (hS : S.head? ≠ some 2 ∧ S.head? ≠ some 3 ∧ (lv = 1 → S.head? ≠ some 4)) (hd3 : dp ≤ 16) (hr0 : r < zN t0 ∧ L.1 3 < zN t0 ∧ L.1 100 < zN t0 ∧ L.1 101 < zN t0) (hCX0 : CX G L t0 m0 r a w W) (hm0 : m0.1 50 = (dp : Int)) (h046 : 0 ≤ m0.1 46) (hX : ∀ t m, PRE G L r a w W t m (opL lv :: S) dp → OUT G L r W lv d t m (opL lv :: S) (X t)) (hX0 : lv = 0 → ∀ u, rc 2 (some r) 0 u = X u) (hX1 : lv = 1 → ∀ u, rc 1 (some r) 0 u = X u) : ∀ (f : Nat) (u : Sg) (m : Mu) (l b n : Nat) (el : Nat → Nat) (pend : List Int) (ns : List Nd), LI G W (zN t0) lv d u x l b n el pend ns → (CX G L u m r a w W ∧ fr7 r t0 u ∧ zI u r 287 = (dp : Int)) → MADE W m0 m S pend ns [] → okP (lv + 1) pend → nxP lv m → 2 * (n : Int) ≤ m.1 5 + 2 → (512 - m.1 5).toNat < f → LGD G L r a w W lv d dp S t0 m0 x m (f7_many_l63 G rc (some r) lv (cwL lv) (some x) f u) ∨ LTH r t0 m0 m (f7_many_l63 G rc (some r) lv (cwL lv) (some x) f u) ∨ LDM G L r dp t0 m0 x m (f7_many_l63 G rc (some r) lv (cwL lv) (some x) f u) := by
  intro f
  obtain ⟨hs1, hs2⟩ := strip_id hS.1
  induction f with
  | zero => intro u m l b n el pend ns _ _ _ _ _ _ hf; omega
  | succ f ih =>
    intro u m l b n el pend ns hLI hctx hMD hoP hnx h2n hf
    obtain ⟨hCX, hfr, h287⟩ := id hctx
    obtain ⟨⟨i1, i2, i3, i4, i5⟩, ⟨l1, l2, l3, l4, l5⟩, hel, hrw⟩ := id hLI
    obtain ⟨⟨y1, y2, y3⟩, ⟨y4, y5, y6⟩, -, ⟨y9, y10⟩, y11⟩ := id hMD
    rw [hs1] at y1 y10
    rw [hs2] at y2
    simp only [List.length_nil, Nat.add_zero, List.append_nil] at y4 y5
    have hR := hCX.1
    have hb512 := hR.2.2.2.1.2.2
    have h5a := hR.2.2.1.2.2.1
    have h5b := hR.2.2.1.2.2.2.1
    have h5c := hR.2.2.1.2.2.2.2.1
    have hPl := y1.2.2.2.2
    have hP0 := y1.2.2.2.1
    simp only [List.length_append] at hPl y10
    have hwl : woL lv = ((22 - lv : Nat) : Int) := rfl
    unfold f7_many_l63
    rw [ztg_e hR.1.1.1, Option.bind_some, c_is hR (j := 22 - lv) (by omega) rfl, Option.bind_some, w32_b2i]
    by_cases hw : m.1 4 = 4 ∧ m.1 7 = woL lv
    · -- one more
      rw [decide_eq_true hw, if_neg (by decide), Option.bind_some]
      have hS' : S.head? ≠ some 3 ∧ (lv = 1 → S.head? ≠ some 4) := hS.2
      rcases node7 hR (by omega) hCX.2.1 with ⟨u1, n1, n2, n3, n4, n5, n6⟩ | ⟨e, t', m', n1, n2, n3, n4, n5, n6⟩
      · obtain ⟨m1, hm1⟩ : ∃ m1, m1 = ms m 52 (m.1 52 + 1) := ⟨_, rfl⟩
        rw [← hm1] at n2 n3
        have o1 : ∀ j, j ≠ 52 → m1.1 j = m.1 j := fun j hj => by rw [hm1, ms_1, if_neg hj]
        have e52 : m1.1 52 = m.1 52 + 1 := by rw [hm1, ms_1, if_pos rfl]
        have a12 : m1.2 = m.2 := by rw [hm1]; rfl
        have P1 : PM m1 (pend ++ S) := PM_eq y1 (o1 49 (by decide)) (o1 46 (by decide)) (by rw [a12])
        have tw := tw_op hR hlv hw n2 P1 hoP hS'
        obtain ⟨eP, z1, z2, z3, z4, z5, z6⟩ := popL_ok pend S m1 P1
        have heP : eP.length = pend.length := by rw [← z1, List.length_map]
        obtain ⟨mo, hmo⟩ : ∃ mo, mo = pshO (popL m1 pend) (opL lv) := ⟨_, rfl⟩
        rw [← hmo] at tw
        have Fo : mfr [46, 49, 50] CA7 m1 mo := by rw [hmo]; exact mfr_tr (mfr_up z3 (by decide) (by decide)) (mfr_up pshO_fr (by decide) (by decide))
        have oo : ∀ j, j ≠ 46 → j ≠ 49 → j ≠ 50 → j ≠ 52 → mo.1 j = m.1 j := fun j h1 h2 h3 h4 => by rw [Fo.1 j (by simp [h1, h2, h3]), o1 j h4]
        have o46 : mo.1 46 = m.1 46 + (pend.length : Int) := by rw [hmo, pshO_fr.1 46 (by decide), z4, o1 46 (by decide)]
        have o50 : mo.1 50 = m.1 50 := by rw [hmo, pshO_fr.1 50 (by decide), z3.1 50 (by decide), o1 50 (by decide)]
        have o52 : mo.1 52 = m.1 52 + 1 := by rw [Fo.1 52 (by decide), e52]
        have hop : opL lv = 2 ∨ opL lv = 3 ∨ opL lv = 4 ∨ opL lv = 8 := by
          have hlv2 : lv = 0 ∨ lv = 1 := by omega
          rcases hlv2 with rfl | rfl
          · exact Or.inr (Or.inl rfl)
          · exact Or.inr (Or.inr (Or.inl rfl))
        have Po : PM mo (opL lv :: S) := by
          rw [hmo]
          exact PM_push z2 (by rw [z4, o1 46 (by decide)]; omega) hop pshO_49 (pshO_fr.1 46 (by decide)) pshO_48
        have ndo : ∀ i, ndN mo i = ndN (popL m1 pend) i := fun i => by rw [hmo]; exact nd_of (fun k hk => pshO_fr.2 k (by simp; omega)) i
        have Ro : R7 G L u1 mo r := R7_m n3 Fo
        have Fmo : mfr CS7 CA7 m mo := mfr_tr (by rw [hm1]; exact mfr_ms mfr_rf (by decide)) (mfr_up Fo (by decide) (by decide))
        rw [n1, te_ok]
        dsimp only
        rw [ztg_e n3.1.1.1, Option.bind_some]
        obtain ⟨m3, k1, k2, k3, k4, k5, k6, k7⟩ := next7m Ro (by rw [oo 4 (by decide) (by decide) (by decide) (by decide)]; omega) (by rw [o52, oo 5 (by decide) (by decide) (by decide) (by decide)]; have := hCX.2.1; omega)
        rw [oo 5 (by decide) (by decide) (by decide) (by decide)] at k5 k7
        have F3 : mfr CS7 CA7 m m3 := mfr_tr Fmo (mfr_up k4 (by decide) (by decide))
        have F03 : mfr CS7 CA7 m0 m3 := mfr_tr y3 F3
        have st : ∀ n, m5_cond_l12 (n + 1) 0 m = m5_cond_l12 n 1 m3 := fun n => by rw [tw n, k1, Option.bind_some]
        have m346 : m3.1 46 = m.1 46 + (pend.length : Int) := by rw [k3 46 (by omega), o46]
        have m350 : m3.1 50 = m.1 50 := by rw [k3 50 (by omega), o50]
        have m352 : m3.1 52 = m.1 52 + 1 := by rw [k3 52 (by omega), o52]
        have nd3 : ∀ i, ndN m3 i = ndN (popL m1 pend) i := fun i => by rw [nd_of (m := mo) (fun k _ => by rw [k2]) i, ndo]
        rcases k7 with ⟨u2, p1, p2, p3, p4, p5⟩ | ⟨e, u2, p1, p2, p3, p4⟩
        · have fr2 : fr7 r u u2 := fr7_tr n4 p4
          have fr02 : fr7 r t0 u2 := fr7_tr hfr fr2
          have hxr : x ≠ r := by omega
          have sx2 : sam u u2 x := fr2.2.1 x i5 hxr
          have hPRE : PRE G L r a w W u2 m3 (opL lv :: S) dp := ⟨CX_k hCX p2 p3 fr2 F3, PM_eq Po (k3 49 (by omega)) (k3 46 (by omega)) (by rw [k2]), by rw [m346]; simp only [List.length_cons]; omega, by rw [p5, n6]; exact h287, by rw [m350, y2]; omega, hd3⟩
          have hso : (opL lv :: S).head? ≠ some 2 := by
            show some (opL lv) ≠ some 2
            intro q
            have : ((3 + lv : Nat) : Int) = 2 := Option.some.inj q
            omega
          obtain ⟨so1, so2⟩ := strip_id hso
          have eX : (if w32 (lv : Int) = 0 then (ztg u2 8 (some r)).bind fun b12 => bdU (rc 2 (some b12) 0 u2) fun q13 => tel q13.1 (fun e14 => some (.inl (e14, q13.2), 0, 0)) fun x15 => f7_many_b100 G rc (f7_many_l63 G rc (some r) lv (cwL lv) (some x) f) (some r) lv (cwL lv) (some x) (some l) x15 q13.2 else (ztg u2 8 (some r)).bind fun b16 => bdU (rc 1 (some b16) 0 u2) fun q17 => tel q17.1 (fun e18 => some (.inl (e18, q17.2), 0, 0)) fun x19 => f7_many_b100 G rc (f7_many_l63 G rc (some r) lv (cwL lv) (some x) f) (some r) lv (cwL lv) (some x) (some l) x19 q17.2) = bdU (X u2) fun q13 => tel q13.1 (fun e14 => some (.inl (e14, q13.2), 0, 0)) fun x15 => f7_many_b100 G rc (f7_many_l63 G rc (some r) lv (cwL lv) (some x) f) (some r) lv (cwL lv) (some x) (some l) x15 q13.2 := by
            rw [ztg_e p2.1.1.1, Option.bind_some, Option.bind_some]
            have hlv2 : lv = 0 ∨ lv = 1 := by omega
            rcases hlv2 with rfl | rfl
            · rw [if_pos (by decide), hX0 rfl]
            · rw [if_neg (by decide), hX1 rfl]
          rw [p1, te_ok]
          dsimp only
          rw [gfR_v (r := some l) (by rw [sx2.1]; exact i1) (by rw [sx2.2.2.2.1]; exact i2), Option.bind_some, eX]
          have hN02 := fr02.1.1
          have hN2 := fr2.1.1
          -- the list, behind the part
          have LA' : ∀ t', fr7 r u2 t' → LA t' l b n ∧ LW G t' l b ∧ (zT t' x = 16 ∧ x < zN t') ∧ sam u t' x ∧ sam u t' l ∧ sam u t' b := fun t' hf' => by
            have hu := fr7_tr fr2 hf'
            have sl := hu.2.1 l l1.2.2.2.2.2.2.1 (by omega)
            have sb := hu.2.1 b l1.2.2.2.2.2.2.2.1 (by omega)
            have sx := hu.2.1 x i5 hxr
            exact ⟨LA_sam l1 sl sb hu.1.1 (fun y hy => (hu.1.2 y hy).1), ⟨l2.1, fun q => l2.2.1 (by rw [← sb.2.1]; exact q), fun q => l2.2.2 (by rw [← sb.2.1]; exact q)⟩, ⟨by rw [sx.1]; exact i1, by have := hu.1.1; omega⟩, sx, sl, sb⟩
          rcases hX u2 m3 hPRE with ⟨c, t', cc, nn, m', k, pend1, ns1, es, x1, x2, ⟨x3, x4, x5, x6⟩, ⟨⟨w1, w2, w3⟩, ⟨w4, w5, w6⟩, ⟨w7, w8⟩, ⟨w9, w10⟩, w11⟩, x7, x8, x9, x10⟩ | ⟨e', t', cc, nn, K, P, m', k, x1, x2, x3, x4, x5⟩ | ⟨c, t', cc, nn, m', md, k, x1, ⟨x2, x3, x4, x5, x6, x7⟩, x8, x9, x10, x11, x12, x13⟩
          · rw [so1] at w1 w10
            rw [so2] at w2 w7
            have hes : es = [] := List.length_eq_zero_iff.mp w7
            subst hes
            simp only [List.length_nil, Nat.add_zero, List.append_nil] at w4 w5
            obtain ⟨f1, f2, f3, f4⟩ := x10
            have hb2 := x3.2.2.2.1.2.2
            have h5b2 := x3.2.2.1.2.2.2.1
            have h5c2 := x3.2.2.1.2.2.2.2.1
            obtain ⟨q1, q2, q3, q4, q5, q6⟩ := LA' t' x4
            have hCc := CA_OT (x8 (pend1.map fun v => ((v, 0, 0, 0) : Nd)) (by rw [List.map_map]; exact List.map_id _))
            obtain ⟨b', t2, ca, na, r1, r2, r3, r4, r5, r6, r7, r8, r9, r10, r11, r12, r13⟩ := add7 (c := c) (lv := lv) (d := d) (W := W) x3 hr0 rfl q3 q1 q2 l3 (Or.inr l4) (fun q => by omega) (by omega) ⟨hCc.1, hCc.2.2.1⟩
            have fr0t2 : fr7 r t0 t2 := fr7_add (fr7_tr fr02 x4) hr0.1 (fun q hq => r10 q hq) r9
            have F0' : mfr CS7 CA7 m0 m' := mfr_tr F03 w3
            have CX2 : CX G L t2 m' r a w W := CX_k hCX0 r13 x6 fr0t2 F0'
            have I2 : zI t2 r 287 = (dp : Int) := by rw [(r10 r hr0.1).2.2.1, x5, p5, n6]; exact h287
            have hN4 := x4.1.1
            have hN9 := r9.1
            have hlN := l1.2.2.2.2.2.2.1
            have hbN := l1.2.2.2.2.2.2.2.1
            obtain ⟨rows, qs, t1', t2', t3'⟩ := hrw eP z1
            have oldF : ∀ q, (FN (zN t0) W u q ∧ q ≠ l ∧ q ≠ b) → (FN (zN t0) W t2 q ∧ q ≠ l ∧ q ≠ b') ∧ sam u t2 q := fun q hq => by
              obtain ⟨⟨v1, v2, v3⟩, v4, v5⟩ := hq
              have s1 := (fr7_tr fr2 x4).2.1 q v2 (by omega)
              obtain ⟨s2, s3⟩ := r12 q (by omega) v4 v5
              have s4 := sam_tr s1 s2
              exact ⟨⟨⟨v1, by omega, by rw [s4.1, s4.2.2.1]; exact v3⟩, v4, s3⟩, s4⟩
            have newF : ∀ q, FN (zN u2) W t' q → (FN (zN t0) W t2 q ∧ q ≠ l ∧ q ≠ b') ∧ sam t' t2 q := fun q hq => by
              obtain ⟨v1, v2, v3⟩ := hq
              obtain ⟨s2, s3⟩ := r12 q v2 (by omega) (by omega)
              exact ⟨⟨⟨by omega, by omega, by rw [s2.1, s2.2.2.1]; exact v3⟩, by omega, s3⟩, s2⟩
            have LI2 : LI G W (zN t0) lv d t2 x l b' (n + 1) (fun i => if i < n then el i else c) (pend1 ++ [opL lv]) (ns ++ eP ++ ns1) := by
              have sx := sam_tr q4 r11
              refine ⟨⟨by rw [sx.1]; exact i1, by rw [sx.2.2.2.1]; exact i2, by rw [sx.2.2.1]; exact i3, i4, by omega⟩, ⟨r4, r5, l3, r6, by omega⟩, fun i hi => ?_, fun qz hqz => ?_⟩
              · show zB t2 b' i = some (if i < n then el i else c)
                by_cases z : i < n
                · rw [if_pos z, r7 i z, q6.2.2.2.2.2, hel i z]
                · rw [if_neg z, show i = n by omega, r8]
              · obtain ⟨qa, qb, rfl, ha, hb⟩ := List.map_eq_append_iff.mp hqz
                obtain ⟨q, qt, rfl, hq, hqt⟩ := List.map_eq_cons_iff.mp hb
                have hqt0 : qt = [] := List.map_eq_nil_iff.mp hqt
                subst hqt0
                refine ⟨fun i => if i < n then rows i else ns1 ++ qa, fun i => if i < n then qs i else q, fun i hi => ?_, fun i hi => ?_, ?_⟩
                · show CA _ G t2 d (if i < n then el i else c) (if i < n then rows i else ns1 ++ qa)
                  by_cases z : i < n
                  · rw [if_pos z, if_pos z]
                    exact CA_sam oldF (gro_tr (fr7_tr fr2 x4).1 r9) _ _ _ (t1' i z)
                  · rw [if_neg z, if_neg z]
                    exact CA_sam newF r9 _ _ _ (x8 qa ha)
                · show (if i < n then qs i else q).1 = _
                  by_cases z : i < n
                  · rw [if_pos z]; exact t2' i hi
                  · rw [if_neg z]; exact hq
                · obtain ⟨j, rfl⟩ : ∃ j, n = j + 1 := ⟨n - 1, by omega⟩
                  show _ = mrow _ _ (j + 1)
                  simp only [mrow]
                  rw [mrow_cg (rows := rows) (qs := qs) j (fun i hi => if_pos (by omega)) (fun i hi => if_pos (by omega)), if_neg (by omega), if_neg (by omega)]
                  rw [Nat.add_sub_cancel] at t3'
                  rw [← t3']
                  simp only [List.append_assoc]
            have hT1 : (m1.1 46).toNat = (m0.1 46).toNat + ns.length := by rw [o1 46 (by decide), y4]; omega
            have MD2 : MADE W m0 m' S (pend1 ++ [opL lv]) (ns ++ eP ++ ns1) [] := by
              refine ⟨⟨?_, ?_, F0'⟩, ⟨?_, ?_, fun i hi => ?_⟩, ⟨by rw [hs2]; rfl, fun q hq => by cases hq⟩, ⟨?_, ?_⟩, fun z hz => ?_⟩
              · rw [hs1, List.append_assoc]; exact w1
              · rw [w2, m350, y2, hs2]; omega
              · rw [w4, m346, y4]; simp only [List.length_append, List.length_nil, heP]; omega
              · rw [List.append_nil, NDS_app, NDS_app]
                refine ⟨⟨?_, ?_⟩, ?_⟩
                · refine NDS_cg ns _ (fun i j1 j2 => ?_) y5
                  rw [w6 i (by rw [m346, y4]; omega), nd3, z6 i (by omega)]
                  exact nd_of (fun k _ => by rw [a12]) i
                · rw [← hT1]
                  refine NDS_cg eP _ (fun i j1 j2 => ?_) z5
                  rw [w6 i (by rw [m346, y4]; rw [hT1] at j2; omega), nd3]
                · rw [show (m0.1 46).toNat + (ns ++ eP).length = (m3.1 46).toNat by rw [m346, y4, List.length_append, heP]; omega]
                  exact w5
              · rw [w6 i (by rw [m346, y4]; omega), nd3, z6 i (by omega), nd_of (m := m) (fun k _ => by rw [a12]) i, y6 i hi]
              · rw [w9, m352, y9]; simp only [List.length_append, List.length_singleton, heP]; omega
              · rw [hs1, List.append_assoc]; exact w10
              · rcases List.mem_append.mp hz with hz | hz
                · rcases List.mem_append.mp hz with hz | hz
                  · exact y11 z hz
                  · have : z.1 ∈ pend := by rw [← z1]; exact List.mem_map_of_mem hz
                    have hh := hoP.1 _ this
                    exact ⟨by omega, by omega, fun h0 => by omega, fun h0 => by omega⟩
                · exact w11 z hz
            have hoP2 : okP (lv + 1) (pend1 ++ [opL lv]) := by
              refine ⟨fun z hz => ?_, fun h1 z hz => ?_, fun q => absurd q (by omega)⟩
              · rcases List.mem_append.mp hz with hz | hz
                · exact x7.1 z hz
                · rw [List.mem_singleton.mp hz]
                  have hlv2 : lv = 0 ∨ lv = 1 := by omega
                  rcases hlv2 with rfl | rfl
                  · exact Or.inl rfl
                  · exact Or.inr rfl
              · have hl0 : lv = 0 := by omega
                subst hl0
                rcases List.mem_append.mp hz with hz | hz
                · exact x7.2.1 (by omega) z hz
                · rw [List.mem_singleton.mp hz]; rfl
            have eAll : ∀ {y : ((Nat × Sg) ⊕ Sg)} {cy ny : Nat}, f7_many_l63 G rc (some r) lv (cwL lv) (some x) f t2 = some (y, cy, ny) → (bdU (X u2) fun q13 => tel q13.1 (fun e14 => some (.inl (e14, q13.2), 0, 0)) fun x15 => f7_many_b100 G rc (f7_many_l63 G rc (some r) lv (cwL lv) (some x) f) (some r) lv (cwL lv) (some x) (some l) x15 q13.2) = some (y, cy + ca + cc, ny + na + nn) := fun {y cy ny} hy => by
              rw [x1, te_okc]
              dsimp only
              unfold f7_many_b100
              rw [ztg_e q1.1, Option.bind_some, r1, bdU_e]
              dsimp only
              rw [hy]
              rfl
            have st2 : ∀ n, m5_cond_l12 (n + (k + 1)) 0 m = m5_cond_l12 n 0 m' := fun n => by rw [show n + (k + 1) = (n + k) + 1 by omega, st, x2]
            rcases ih t2 m' l b' (n + 1) _ _ _ LI2 ⟨CX2, fr0t2, I2⟩ MD2 hoP2 x9 (by omega) (by omega) with ⟨u', c2, n2', m'', k2, lz, bz, nz', elz, pz, nsz, s1, s2, s3, s4, s5, s6, s7, s8, s9⟩ | ⟨e', u', c2, n2', K, P, m'', k2, s1, s2, s3, s4, s5⟩ | ⟨u', c2, n2', m'', md, k2, s1, s2, s3, s4, s5, s6, s7, s8⟩
            · left
              refine ⟨u', c2 + ca + cc, n2' + na + nn, m'', k2 + (k + 1), lz, bz, nz', elz, pz, nsz, eAll s1, fun n => ?_, s3, s4, s5, s6, s7, s8, Or.inr ?_⟩
              · rw [show n + (k2 + (k + 1)) = (n + k2) + (k + 1) by omega, st2, s2]
              · rcases s9 with ⟨rfl, rfl, rfl, rfl⟩ | s9 <;> omega
            · right; left
              have hle := TH_K s2
              refine ⟨e', u', c2 + ca + cc, n2' + na + nn, K, P, m'', k2 + (k + 1), eAll s1, TH7_tr fr7_rf (by omega) s2 (by omega) (by omega), fun n => ?_, s4, by omega⟩
              rw [show n + (k2 + (k + 1)) = (n + k2) + (k + 1) by omega, TC_st st2]; exact s3 n
            · right; right
              refine ⟨u', c2 + ca + cc, n2' + na + nn, m'', md, k2 + (k + 1), eAll s1, s2, fun n => ?_, s4, by omega, by omega, by omega, by omega⟩
              rw [show n + (k2 + (k + 1)) = (n + k2) + (k + 1) by omega, TC_st st2]; exact s3 n
          · right; left
            have hle := TH_K x2
            refine ⟨e', t', cc, nn, K, P, m', k + 1, by rw [x1, te_bad], TH7_tr fr02 (by omega) x2 (by omega) (by omega), fun n => ?_, MFB_tr F03 x4, by omega⟩
            rw [show n + (k + 1) = (n + k) + 1 by omega, TC_st st]; exact x3 n
          · right; right
            obtain ⟨q1, q2, q3, q4, q5, q6⟩ := LA' t' x4
            obtain ⟨b', t2, ca, na, r1, r2, r3, r4, r5, r6, r7, r8, r9, r10, r11, r12, r13⟩ := add7 (c := c) (lv := lv) (d := d) (W := W) x2 hr0 rfl q3 q1 q2 l3 (Or.inr l4) (fun q => by omega) (by omega) ⟨x6, x7⟩
            have hb2 : f7_many_l63 G rc (some r) lv (cwL lv) (some x) f t2 = some (.inr t2, 0, 0) := by
              obtain ⟨f, rfl⟩ : ∃ g, f = g + 1 := ⟨f - 1, by omega⟩
              unfold f7_many_l63
              rw [ztg_e r13.1.1.1, Option.bind_some, c_is r13 (j := 22 - lv) (by omega) rfl, Option.bind_some, w32_b2i, decide_eq_false (by have := x3.1; omega), if_pos (by rfl)]
            refine ⟨t2, ca + cc, na + nn, m', md, k + 1, ?_, ⟨r13, x3, fr7_add (fr7_tr fr02 x4) hr0.1 (fun q hq => r10 q hq) r9, ?_, by rw [r11.1]; exact q3.1, by have := r9.1; omega⟩, fun n => ?_, MF_tr F03 x9, by omega, by omega, by omega, by omega⟩
            · rw [x1, te_okc]
              dsimp only
              unfold f7_many_b100
              rw [ztg_e q1.1, Option.bind_some, r1, bdU_e]
              dsimp only
              rw [hb2]
              simp
            · rw [(r10 r hr0.1).2.2.1, x5, p5, n6]; exact h287
            · rw [show n + (k + 1) = (n + k) + 1 by omega, TC_st st]; exact x8 n
        · right; left
          obtain ⟨m4, z1, z2⟩ := bad1 p4 p3
          refine ⟨e, u2, 1, 8, 1, m3.1 5, m4, 3, by rw [p1, te_bad], TH7_tr (fr7_tr hfr n4) (Int.le_refl _) p2 (by omega) (by omega), fun n => ?_, Or.inl (MF_tr F03 z2), by omega⟩
          rw [show n + 3 = (n + 2) + 1 by omega, TC_st st]; exact z1 n
      · right; left
        have P1 : PM m' (pend ++ S) := PM_eq y1 (n5 49 (by decide) (by decide) (by decide)) (n5 46 (by decide) (by decide) (by decide)) (by rw [n6])
        have tw := tw_op hR hlv hw n3 P1 hoP hS'
        obtain ⟨eP, z1, z2, z3, z4, z5, z6⟩ := popL_ok pend S m' P1
        have Fo : mfr [46, 49] [42, 48] m' (pshO (popL m' pend) (opL lv)) := mfr_tr (mfr_up z3 (by decide) (by decide)) (mfr_up pshO_fr (by decide) (by decide))
        obtain ⟨m3, k1, k2, k3⟩ := nextT (m1 := pshO (popL m' pend) (opL lv)) hR (by rw [Fo.1 2 (by decide), n5 2 (by decide) (by decide) (by decide)]) (by rw [Fo.1 3 (by decide), n5 3 (by decide) (by decide) (by decide)]) (by rw [Fo.2 0 (by decide), n6]) (by rw [Fo.2 1 (by decide), n6])
        have hm : MF m m3 6 (m.1 5) := ⟨by rw [k3 8 (by omega), Fo.1 8 (by decide)]; exact n4.1, by rw [k3 9 (by omega), Fo.1 9 (by decide)]; exact n4.2.1, mfr_tr n4.2.2 (mfr_tr (mfr_up Fo (by decide) (by decide)) ⟨fun k hk => k3 k (by simp only [CS7, List.mem_cons, List.not_mem_nil, or_false] at hk; omega), fun k _ => by rw [k2]⟩)⟩
        refine ⟨e, t', 1, 8, 6, m.1 5, m3, 2, by rw [n1, te_bad], TH7_tr hfr (Int.le_refl _) n2 (by omega) (by omega), fun n => TC_MF (by decide) hm (k := 1) (v' := 1) (fun n => ?_) n, Or.inl (MF_tr y3 hm), by omega⟩
        rw [tw n, k1, Option.bind_some]
    · -- no more
      left
      rw [decide_eq_false hw, if_pos (by rfl)]
      refine ⟨u, 0, 0, m, 0, l, b, n, el, pend, ns, rfl, fun n => rfl, hLI, hctx, hMD, hoP, ?_, by omega, Or.inl ⟨rfl, rfl, rfl, rfl⟩⟩
      have hlv2 : lv = 0 ∨ lv = 1 := by omega
      rcases hlv2 with rfl | rfl
      · exact ⟨fun _ => hw, fun q => absurd q (by decide)⟩
      · exact ⟨fun _ => hnx.1 (by decide), fun _ => hw⟩
