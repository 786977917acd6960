/-! THE READER: a part of a condition -/
def PRE (G : CG) (L : Ly) (r a w : Nat) (W : Wv) (t : Sg) (m : Mu) (S : List Int) (dp : Nat) : Prop := CX G L t m r a w W ∧ PM m S ∧ m.1 46 + (S.length : Int) ≤ m.1 5 ∧ zI t r 287 = (dp : Int) ∧ m.1 50 = (dp : Int) ∧ dp ≤ 16
theorem PRE_5 {G : CG} {L : Ly} {r a w : Nat} {W : Wv} {t : Sg} {m : Mu} {S : List Int} {dp : Nat} (h : PRE G L r a w W t m S dp) : m.1 5 ≤ 512 ∧ 0 ≤ m.1 46 ∧ m.1 46 ≤ 512 ∧ (S.length : Int) ≤ 512 ∧ m.1 49 = (S.length : Int) ∧ m.1 46 + (S.length : Int) ≤ 512 := by
  obtain ⟨h1, h2, h3, -⟩ := h
  have b := h1.1.2.2.2.1.2.2
  have b2 := h1.1.2.2.1.2.2.2.1
  have b3 := h1.1.2.2.1.2.2.2.2.1
  have b4 := h2.2.2.2.1
  exact ⟨by omega, b4, by omega, by omega, h2.1, by omega⟩
theorem tw1 {G : CG} {L : Ly} {t : Sg} {m : Mu} {r : Nat} (h : R7 G L t m r) (n23 : ¬ (m.1 4 = 4 ∧ m.1 7 = 23)) (n8 : ¬ (m.1 4 = 3 ∧ m.1 7 = 8)) : ∀ n, m5_cond_l12 (n + 1) 1 m = if m.1 4 = 1 then (m5_part m).bind fun u16 => if w32 (u16.1 8) = 0 then (m5_endPart u16).bind fun u17 => m5_cond_l12 n 0 u17 else m5_cond_l12 n 1 u16 else (m5_cannot m).bind fun u15 => m5_cond_l12 n 1 u15 := fun n => by
  obtain ⟨k1, -⟩ := tk_w h.2.2.1
  rw [m5_cond_l12.eq_2]
  rw [h.2.2.2.2.2, if_pos (by decide), if_neg (by decide), m_w7 h _ (by decide), Option.bind_some, decide_eq_false n23, if_pos (by rfl), m_s7 h _ (by decide), Option.bind_some, decide_eq_false n8, if_pos (by rfl), k1.2.2.1]
/-- the twin's end at a fault that stands -/
theorem TC_MF {v : Int} {m m1 : Mu} {K P : Int} {k : Nat} (hK : w32 K ≠ 0) (h : MF m m1 K P) {v' : Int} (hs : ∀ n, m5_cond_l12 (n + k) v m = m5_cond_l12 n v' m1) : ∀ n, TC (n + (k + 1)) v m = some m1 := fun n => by
  rw [show n + (k + 1) = (n + 1) + k by omega, TC_st hs]
  exact TC_f (by rw [h.1]; exact hK)
theorem TH_K {r : Nat} {t t' : Sg} {w K P : Int} {e c n : Nat} (h : TH7 r t w e t' c n K P) : w ≤ P := h.2.2.2.2.2.1.1
theorem TH_P {r : Nat} {t t' : Sg} {w K P : Int} {e c n : Nat} (h : TH7 r t w e t' c n K P) : P ≤ 512 := h.2.2.2.2.2.1.2
theorem TH_0 {r : Nat} {t t' : Sg} {w K P : Int} {e c n : Nat} (h : TH7 r t w e t' c n K P) : w32 K ≠ 0 := by
  have := h.2.1.2
  rw [w32_id (by omega) (by omega)]
  omega
theorem part_name {G : CG} {L : Ly} {r a w : Nat} {W : Wv} {t : Sg} {m : Mu} {S : List Int} {dp e : Nat} (h : PRE G L r a w W t m S dp) (he : 1 ≤ e) (n23 : ¬ (m.1 4 = 4 ∧ m.1 7 = 23)) (n8 : ¬ (m.1 4 = 3 ∧ m.1 7 = 8)) : OUT G L r W 0 e t m S (bdU (f7_wantKind G (some r) 1 t) fun q6 => tel q6.1 (fun e7 => xth e7 q6.2) fun x8 => (ztg q6.2 8 (some r)).bind fun b9 => bdU (f7_named G (some b9) q6.2) fun q10 => tel q10.1 (fun e11 => xth e11 q10.2) fun x12 => some ((.inr x12, q10.2), 0, 0)) := by
  obtain ⟨g5, g46, g46', gS, g49, gSum⟩ := PRE_5 h
  obtain ⟨hCX, hPM, hJ, hd1, hd2, hd3⟩ := h
  have hR := hCX.1
  obtain ⟨k1, -⟩ := tk_w hR.2.2.1
  have hl := nots_len S
  rcases want_kind hR (K := 1) (by decide) with ⟨q4, eq⟩ | ⟨q4, e', t', eq, hth⟩
  · rw [eq, te_ok]
    dsimp only
    rw [ztg_e hR.1.1.1, Option.bind_some]
    have tw : ∀ n, m5_cond_l12 (n + 1) 1 m = (m5_part m).bind fun u16 => if w32 (u16.1 8) = 0 then (m5_endPart u16).bind fun u17 => m5_cond_l12 n 0 u17 else m5_cond_l12 n 1 u16 := fun n => by rw [tw1 hR n23 n8 n, if_pos q4]
    have fault : ∀ {m1 : Mu} {K P : Int}, m5_part m = some m1 → w32 K ≠ 0 → MF m m1 K P → ∀ n, TC (n + 2) 1 m = some m1 := fun {m1 K P} e1 hK hm n => TC_MF hK hm (k := 1) (v' := 1) (fun n => by rw [tw n, e1, Option.bind_some, hm.1, if_neg hK]) n
    rcases named7 hCX q4 ⟨g46, by omega⟩ with (⟨c, t', cc, nn, m1, j1, j2, ⟨i1, i2, i3, i4, i5, i6, i7, i8, i9, i10, i11⟩, j4, j5⟩ | ⟨e', t', cc, nn, K, P, m1, j1, j2, j3, j4⟩) | ⟨c, t', cc, nn, m1, md, j1, j2, j3, j4, j5, j6, j7⟩
    · left
      have P1 : PM m1 S := ⟨by rw [i4.1 49 (by decide)]; exact hPM.1, by rw [i4.2 48 (by decide)]; exact hPM.2.1, hPM.2.2.1, by rw [i5]; omega, by rw [i5]; omega⟩
      obtain ⟨m', es, p1, p2, p3, p4, p5, p6, p7, p8, p9⟩ := m_endPart S m1 NN P1 (NN_gt (by omega))
      have o : ∀ j, j ≠ 46 → j ≠ 49 → j ≠ 50 → m'.1 j = m1.1 j := fun j h1 h2 h3 => p3.1 j (by simp [h1, h2, h3])
      have hT : (m1.1 46).toNat = (m.1 46).toNat + 1 := by omega
      refine ⟨c, t', cc, nn, m', 1, [], [ndN m1 (m.1 46).toNat], es, by rw [j1, te_okc]; simp, fun n => ?_, ⟨R7_m i1 (mfr_up p3 (by decide) (by decide)), i2, i3, ?_⟩, ⟨⟨p2, ?_, ?_⟩, ⟨?_, ?_, fun i hi => ?_⟩, ⟨p4, p5⟩, ⟨?_, ?_⟩, ?_⟩, ⟨by simp, by simp, fun _ => rfl⟩, fun qs hq => ?_, ⟨fun q => absurd q (by decide), fun q => absurd q (by decide)⟩, ?_⟩
      · rw [tw n, j2, Option.bind_some, i1.2.2.2.2.2, if_pos (by decide)]
        unfold m5_endPart
        rw [p1, Option.bind_some, Option.bind_some]
      · rw [o 52 (by decide) (by decide) (by decide), o 5 (by decide) (by decide) (by decide)]; exact i10
      · rw [p7, i4.1 50 (by decide)]
      · exact mfr_tr (mfr_up i4 (by decide) (by decide)) (mfr_up p3 (by decide) (by decide))
      · rw [p6, i5]; simp only [List.length_singleton]; omega
      · exact ⟨p9 _ (by omega), by rw [← hT]; exact p8⟩
      · rw [p9 i (by omega), i6 i (by omega)]
      · rw [o 52 (by decide) (by decide) (by decide), i9]; simp
      · rw [o 5 (by decide) (by decide) (by decide), p6, i5]; simp only [List.nil_append]; omega
      · intro q hq; rw [List.mem_singleton.mp hq]; exact i8
      · rw [List.map_eq_nil_iff.mp hq, List.append_nil]; exact CA_le i7 he
      · unfold CST; rw [o 5 (by decide) (by decide) (by decide)]; omega
    · right; left
      have hle := TH_K j2
      rcases j4 with j4 | ⟨rfl, b1, b2, b3, b4, b5, b6⟩
      · have hK : w32 K ≠ 0 := TH_0 j2
        exact ⟨e', t', cc, nn, K, P, m1, 2, by rw [j1, xt_tel j2.1], j2, fault j3 hK j4, Or.inl j4, by omega⟩
      · have P1 : PM m1 S := ⟨by rw [b4.1 49 (by decide)]; exact hPM.1, by rw [b4.2 48 (by decide)]; exact hPM.2.1, hPM.2.2.1, by omega, by omega⟩
        obtain ⟨m', es, p1, p2, p3, p4, p5, p6, p7, p8, p9⟩ := m_endPart S m1 NN P1 (NN_gt (by omega))
        have o : ∀ j, j ≠ 46 → j ≠ 49 → j ≠ 50 → m'.1 j = m1.1 j := fun j h1 h2 h3 => p3.1 j (by simp [h1, h2, h3])
        obtain ⟨m2, z1, z2⟩ := bad0 (by rw [o 8 (by decide) (by decide) (by decide)]; exact b1) (by rw [o 4 (by decide) (by decide) (by decide)]; exact b2) p2
        rw [o 5 (by decide) (by decide) (by decide), b3] at z2
        have st : ∀ n, m5_cond_l12 (n + 1) 1 m = m5_cond_l12 n 0 m' := fun n => by
          rw [tw n, j3, Option.bind_some, b1, if_pos (by decide)]
          unfold m5_endPart
          rw [p1, Option.bind_some, Option.bind_some]
        exact ⟨e', t', cc, nn, 1, P, m2, 2, by rw [j1, xt_tel j2.1], j2, fun n => by rw [show n + 2 = (n + 1) + 1 by omega, TC_st st]; exact z1 n, MFB_tr (mfr_tr (mfr_up b4 (by decide) (by decide)) (mfr_up p3 (by decide) (by decide))) z2, by omega⟩
    · right; right
      exact ⟨c, t', cc, nn, m1, md, 2, by rw [j1, te_okc]; simp, j3, fault j2 (by decide) j4, j4, by omega, j5, by omega, by omega⟩
  · right; left
    obtain ⟨m', em, hm⟩ := m_cannot hR.2.2.2.2.2 k1.2.2.1
    rw [if_neg (show ¬ m.1 4 = 5 by omega)] at hm
    refine ⟨e', t', 1, 8, 2, m.1 5, m', 2, by rw [eq, xt_tel hth.1], hth, fun n => TC_MF (by decide) hm (k := 1) (v' := 1) (fun n => ?_) n, Or.inl hm, by omega⟩
    rw [tw1 hR n23 n8 n, if_neg q4, em, Option.bind_some]
