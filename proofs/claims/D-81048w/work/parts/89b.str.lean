/-! THE STRING CONSTANT of the twin's constructor, and String.charAt on it (printed by gen_str.py) -/
def sTx : String := "fact yes one from to mean cover leave back first share most event year all rate times plus round least if or and not strike instead always never may "
def sBi : List Int := [102, 97, 99, 116, 32, 121, 101, 115, 32, 111, 110, 101, 32, 102, 114, 111, 109, 32, 116, 111, 32, 109, 101, 97, 110, 32, 99, 111, 118, 101, 114, 32, 108, 101, 97, 118, 101, 32, 98, 97, 99, 107, 32, 102, 105, 114, 115, 116, 32, 115, 104, 97, 114, 101, 32, 109, 111, 115, 116, 32, 101, 118, 101, 110, 116, 32, 121, 101, 97, 114, 32, 97, 108, 108, 32, 114, 97, 116, 101, 32, 116, 105, 109, 101, 115, 32, 112, 108, 117, 115, 32, 114, 111, 117, 110, 100, 32, 108, 101, 97, 115, 116, 32, 105, 102, 32, 111, 114, 32, 97, 110, 100, 32, 110, 111, 116, 32, 115, 116, 114, 105, 107, 101, 32, 105, 110, 115, 116, 101, 97, 100, 32, 97, 108, 119, 97, 121, 115, 32, 110, 101, 118, 101, 114, 32, 109, 97, 121, 32]
def bS (AS : Nat → Prop) (aK aV : Nat) (f : Option Nat) : Unit → State → Heap → Prop := fun _ U H => va_O "java/lang/String" aK AS U H ∧ va_OF "java/lang/String" "coder" "B" (.int 0) aK AS U H ∧ va_OF "java/lang/String" "value" "[B" (.ref aV) aK AS U H ∧ va_T .byte aV 149 (fun j => .int (jI (sBi.getD j 0))) AS U H ∧ va_Z "java/lang/String" "COMPACT_STRINGS" "Z" (.int 1) AS U H ∧ va_Z "jdk/internal/util/Preconditions" "SIOOBE_FORMATTER" "Ljava/util/function/BiFunction;" (va_rf f) AS U H
theorem bS_mv (AS : Nat → Prop) (aK aV : Nat) (f : Option Nat) : jMv (bS AS aK aV f) := fun _ u U H hvm h => ⟨h.1.moved hvm, h.2.1.moved hvm, h.2.2.1.moved hvm, h.2.2.2.1.moved hvm, h.2.2.2.2.1.moved hvm, h.2.2.2.2.2.moved hvm⟩
theorem bS_kept {AS : Nat → Prop} {aK aV : Nat} {f : Option Nat} {U : State} {H H1 : Heap} (h : bS AS aK aV f () U H) (hq : ∀ a : Nat, a < H.size → ¬ AS a → H1[a]? = H[a]?) : bS AS aK aV f () U H1 := ⟨h.1.kept hq, h.2.1.kept hq, h.2.2.1.kept hq, h.2.2.2.1.kept hq, h.2.2.2.2.1.kept hq, h.2.2.2.2.2.kept hq⟩
theorem sBi_b : ∀ k : Nat, k < 149 → 0 ≤ sBi.getD k 0 ∧ sBi.getD k 0 < 128 := by decide
theorem nar_c {x : Int} (h : 0 ≤ x ∧ x < 128) : narrow .char (.int (jI x)) = .int (jI x) := by
  have h1 : ∀ n : Nat, n < 128 → narrow .char (.int (jI (n : Int))) = .int (jI (n : Int)) := by decide
  have := h1 x.toNat (by omega)
  rwa [show (x.toNat : Int) = x by omega] at this
abbrev DJ6_charAt : MD := (RJ6, cJ6_charAt, 2, some .char, "charAt", 3, 64)
abbrev DJ6_isLatin1 : MD := (RJ6, cJ6_isLatin1, 1, some .boolean, "isLatin1", 0, 0)
abbrev DJ6_checkIndex : MD := (RJ6, cJ6_checkIndex, 2, none, "checkIndex", 1, 22)
abbrev DJ7_charAt : MD := (RJ7, cJ7_charAt, 2, some .char, "charAt", 2, 43)
theorem pl_J6 : plainName RJ6 = true := by decide
theorem pl_J7 : plainName RJ7 = true := by decide
theorem pl_J8s : plainName RJ8 = true := by decide
section
variable {AS : Nat → Prop} {aK aV : Nat} {f : Option Nat} {l : Launch} {D : MD} {a : List PV} {Q : List Frame → State → State → Prop} {mc ms ce sl pc : Nat} {lv : List (Nat × PV)} {st : List PV}
abbrev SW (AS : Nat → Prop) (aK aV : Nat) (f : Option Nat) (l : Launch) (D : MD) (a : List PV) (Q : List Frame → State → State → Prop) (mc ms ce sl pc : Nat) (lv : List (Nat × PV)) (st : List PV) : Prop := JW kT (bS AS aK aV f) (fun _ => False) l D a Q mc ms () ce sl pc lv st
theorem s_gets {idx : Nat} {C n d : String} {v : PV} (hZ : ∀ (U : State) (H : Heap), bS AS aK aV f () U H → va_Z C n d (mv v) AS U H) (hf : Cond.fieldLink D.1 idx C n d ∈ lw_all) (hd : decode D.2.1 pc = .ok (.getstatic idx, 3)) (kk : SW AS aK aV f l D a Q mc ms ce sl (pc + 3) lv (v :: st)) : SW AS aK aV f l D a Q mc ms ce sl pc lv st := by
  intro p e s m below meth c H locs ls X hr hlk hn hK hB hS hl
  have h9 := kk p e s m below meth c H locs ls X hr hlk hn hK hB hS hl
  obtain ⟨cf, kf, fi, f, a9, cell, h1, h2, h3, h4, h5, h6, h7, h8⟩ := hZ s H hB
  exact W.gets X.1 X.2.1 X.2.2.2.1 (X.2.2.2.2 _ hf) h1 h2 h3 h4 h5 (fun e => by rw [e] at h6; cases h6) h7 rfl hd h9
theorem s_getf {idx b : Nat} {C n d : String} {v : PV} (hZ : ∀ (U : State) (H : Heap), bS AS aK aV f () U H → va_OF C n d (mv v) b AS U H) (hf : Cond.fieldLink D.1 idx C n d ∈ lw_all) (hd : decode D.2.1 pc = .ok (.getfield idx, 3)) (kk : SW AS aK aV f l D a Q mc ms ce sl (pc + 3) lv (v :: st)) : SW AS aK aV f l D a Q mc ms ce sl pc lv (pR (some b) :: st) := by
  intro p e s m below meth c H locs ls X hr hlk hn hK hB hS hl
  have h9 := kk p e s m below meth c H locs ls X hr hlk hn hK hB hS hl
  obtain ⟨cf, kf, fi, f, cell, h1, h2, h3, h4, h5, h6⟩ := hZ s H hB
  exact W.getf X.1 X.2.1 X.2.2.2.1 (X.2.2.2.2 _ hf) h1 h2 h3 h4 h5 rfl rfl hd h9
theorem s_alen (hd : decode D.2.1 pc = .ok (.arraylength, 1)) (kk : SW AS aK aV f l D a Q mc ms ce sl (pc + 1) lv (pI 149 :: st)) : SW AS aK aV f l D a Q mc ms ce sl pc lv (pR (some aV) :: st) := by
  intro p e s m below meth c H locs ls X hr hlk hn hK hB hS hl
  have h9 := kk p e s m below meth c H locs ls X hr hlk hn hK hB hS hl
  obtain ⟨cell, h1, h2, h3, h4, h5, h6, h7⟩ := hB.2.2.2.1
  exact W.alen X.1 X.2.1 h1 h2 h5 rfl rfl hd h9
theorem s_bald {i : Int} (k : Nat) (hk : k < 149) (hi : w32 i = k) (hd : decode D.2.1 pc = .ok (.baload, 1)) (kk : SW AS aK aV f l D a Q mc ms ce sl (pc + 1) lv (pI (sBi.getD k 0) :: st)) : SW AS aK aV f l D a Q mc ms ce sl pc lv (pI i :: pR (some aV) :: st) := by
  intro p e s m below meth c H locs ls X hr hlk hn hK hB hS hl
  have h9 := kk p e s m below meth c H locs ls X hr hlk hn hK hB hS hl
  obtain ⟨cell, h1, h2, h3, h4, h5, h6, h7⟩ := hB.2.2.2.1
  have e1 : (jI i).toNatClampNeg = k := by rw [clamp_I, hi]; omega
  have hin := in_I (x := i) (n := cell.slots.size) ⟨by omega, by omega⟩
  exact W.bald X.1 X.2.1 h1 h2 h3 hin (v := mv (pI (sBi.getD k 0))) (by rw [e1]; exact h6 k hk) rfl rfl hd h9
theorem s_isLatin1 : JM kT (bS AS aK aV f) (fun _ => False) l yJ6_isLatin1 DJ6_isLatin1 [pR (some aK)] () (some (pI 1)) () 0 0 := by
  refine j_met (lv0 := [(0, pR (some aK))]) ⟨pl_J6, rfl, rfl, (Nat.le_of_ble_eq_true rfl), rfl⟩ ?_
  refine s_gets (v := pI 1) (fun U H h => h.2.2.2.2.1) q1805 dJ6_isLatin1_0 ?_
  refine j_if_eq 1 rfl 17 dJ6_isLatin1_3 (by decide) (fun h => absurd h (by decide)) (fun _ => ?_)
  refine j_aload_n dJ6_isLatin1_6 0 rfl ?_
  refine s_getf (v := pI 0) (fun U H h => h.2.1) q2728 dJ6_isLatin1_7 ?_
  refine j_if_ne 0 rfl 17 dJ6_isLatin1_10 (by decide) (fun h => absurd rfl h) (fun _ => ?_)
  refine j_iconst dJ6_isLatin1_13 ?_
  refine j_goto 18 dJ6_isLatin1_14 (by decide) ?_
  exact j_zreturn (bS_mv _ _ _ _) ⟨Nat.le_refl 0, Nat.le_refl 0⟩ rfl (nar_z (Or.inr rfl)) dJ6_isLatin1_18
theorem s_preIndex {i : Int} (k : Nat) (hk : k < 149) (hi : w32 i = k) : JM kT (bS AS aK aV f) (fun _ => False) l yJ8_checkIndex DJ8_checkIndex [pI i, pI 149, pR f] () (some (pI i)) () 0 0 := by
  refine j_met (lv0 := [(0, pI i), (1, pI 149), (2, pR f)]) ⟨pl_J8s, rfl, rfl, (Nat.le_of_ble_eq_true rfl), rfl⟩ ?_
  refine j_iload_n dJ8_checkIndex_0 0 rfl ?_
  refine j_if_lt k hi 9 dJ8_checkIndex_1 (by decide) (fun h => absurd h (by omega)) (fun _ => ?_)
  refine j_iload_n dJ8_checkIndex_4 0 rfl ?_
  refine j_iload_n dJ8_checkIndex_5 1 rfl ?_
  refine j_icmp_lt k 149 hi rfl 16 dJ8_checkIndex_6 (by decide) (fun _ => ?_) (fun h => absurd h (by omega))
  refine j_iload_n dJ8_checkIndex_16 0 rfl ?_
  exact j_ireturn (bS_mv _ _ _ _) ⟨Nat.le_refl 0, Nat.le_refl 0⟩ rfl dJ8_checkIndex_17
theorem s_wPre : jwS RJ6 DJ8_checkIndex 1059 yJ8_checkIndex := ⟨q1815, q822, q143, q823⟩
theorem s_dPre : jdV yJ8_checkIndex RJ8 3 := ⟨rfl, by decide +kernel, by decide +kernel, by decide +kernel⟩
theorem s_checkIndex {i : Int} (k : Nat) (hk : k < 149) (hi : w32 i = k) : JM kT (bS AS aK aV f) (fun _ => False) l yJ6_checkIndex DJ6_checkIndex [pI i, pI 149] () none () 0 0 := by
  refine j_met (lv0 := [(0, pI i), (1, pI 149)]) ⟨pl_J6, rfl, rfl, (Nat.le_of_ble_eq_true rfl), rfl⟩ ?_
  refine j_iload_n dJ6_checkIndex_0 0 rfl ?_
  refine j_iload_n dJ6_checkIndex_1 1 rfl ?_
  refine s_gets (v := pR f) (fun U H h => h.2.2.2.2.2) q1813 dJ6_checkIndex_2 ?_
  refine j_callS [pI i, pI 149, pR f] [] _ kT_v (bS_mv _ _ _ _) (s_preIndex k hk hi) s_wPre s_dPre rfl ⟨(Nat.le_of_ble_eq_true rfl), (Nat.le_of_ble_eq_true rfl)⟩ rfl (Nat.le_of_ble_eq_true rfl) dJ6_checkIndex_5 ⟨Nat.le_refl 0, Nat.le_refl 0⟩ ?_
  refine j_pop dJ6_checkIndex_8 rfl ?_
  exact j_return (bS_mv _ _ _ _) ⟨Nat.le_refl 0, Nat.le_refl 0⟩ rfl dJ6_checkIndex_9
theorem s_wChk : jwS RJ7 DJ6_checkIndex 9 yJ6_checkIndex := ⟨q1810, q1811, q141, q1812⟩
theorem s_dChk : jdV yJ6_checkIndex RJ6 2 := ⟨rfl, by decide +kernel, by decide +kernel, by decide +kernel⟩
theorem s_latChar {i : Int} (k : Nat) (hk : k < 149) (hi : w32 i = k) : JM kT (bS AS aK aV f) (fun _ => False) l yJ7_charAt DJ7_charAt [pR (some aV), pI i] () (some (pI (sBi.getD k 0))) () 0 0 := by
  have hb := sBi_b k hk
  refine j_met (lv0 := [(0, pR (some aV)), (1, pI i)]) ⟨pl_J7, rfl, rfl, (Nat.le_of_ble_eq_true rfl), rfl⟩ ?_
  refine j_iload_n dJ7_charAt_0 1 rfl ?_
  refine j_aload_n dJ7_charAt_1 0 rfl ?_
  refine s_alen dJ7_charAt_2 ?_
  refine j_callS [pI i, pI 149] [] _ kT_v (bS_mv _ _ _ _) (s_checkIndex k hk hi) s_wChk s_dChk rfl ⟨(Nat.le_of_ble_eq_true rfl), (Nat.le_of_ble_eq_true rfl)⟩ rfl (Nat.le_of_ble_eq_true rfl) dJ7_charAt_3 ⟨Nat.le_refl 0, Nat.le_refl 0⟩ ?_
  refine j_aload_n dJ7_charAt_6 0 rfl ?_
  refine j_iload_n dJ7_charAt_7 1 rfl ?_
  refine s_bald k hk hi dJ7_charAt_8 ?_
  refine j_sipush dJ7_charAt_9 (by decide) ?_
  refine j_iand dJ7_charAt_12 ?_
  refine j_i2c dJ7_charAt_13 ?_
  have e1 : chr16 (and32 (sBi.getD k 0) 255) = sBi.getD k 0 := by
    have h1 : ∀ n : Nat, n < 128 → chr16 (and32 (n : Int) 255) = (n : Int) := by decide
    have := h1 (sBi.getD k 0).toNat (by omega)
    rwa [show ((sBi.getD k 0).toNat : Int) = sBi.getD k 0 by omega] at this
  rw [e1]
  exact j_zreturn (bS_mv _ _ _ _) ⟨Nat.le_refl 0, Nat.le_refl 0⟩ rfl (nar_c hb) dJ7_charAt_14
theorem s_wLat : jwS RJ6 DJ7_charAt 495 yJ7_charAt := ⟨q1807, q1808, q142, q1809⟩
theorem s_dLat : jdV yJ7_charAt RJ7 2 := ⟨rfl, by decide +kernel, by decide +kernel, by decide +kernel⟩
theorem s_wIs : jwV RJ6 DJ6_isLatin1 492 yJ6_isLatin1 := ⟨q1801, q1802, q1803, q141, q1804⟩
theorem s_dIs : jdV yJ6_isLatin1 RJ6 0 := ⟨rfl, by decide +kernel, by decide +kernel, by decide +kernel⟩
theorem s_recv : jrecv (bS AS aK aV f) () aK RJ6 := by
  intro s H hB
  obtain ⟨cell, h1, h2, h3, -⟩ := hB.1
  exact ⟨cell, h1, h2, h3⟩
theorem s_charAt {i : Int} (k : Nat) (hk : k < 149) (hi : w32 i = k) : JM kT (bS AS aK aV f) (fun _ => False) l yJ6_charAt DJ6_charAt [pR (some aK), pI i] () (some (pI (sBi.getD k 0))) () 0 0 := by
  have hb := sBi_b k hk
  refine j_met (lv0 := [(0, pR (some aK)), (1, pI i)]) ⟨pl_J6, rfl, rfl, (Nat.le_of_ble_eq_true rfl), rfl⟩ ?_
  refine j_aload_n dJ6_charAt_0 0 rfl ?_
  refine j_callV [] [] _ kT_v (bS_mv _ _ _ _) s_isLatin1 s_wIs s_dIs rfl ⟨(Nat.le_of_ble_eq_true rfl), (Nat.le_of_ble_eq_true rfl)⟩ s_recv rfl (Nat.le_of_ble_eq_true rfl) dJ6_charAt_1 ⟨Nat.le_refl 0, Nat.le_refl 0⟩ ?_
  refine j_if_eq 1 rfl 16 dJ6_charAt_4 (by decide) (fun h => absurd h (by decide)) (fun _ => ?_)
  refine j_aload_n dJ6_charAt_7 0 rfl ?_
  refine s_getf (v := pR (some aV)) (fun U H h => h.2.2.1) q2729 dJ6_charAt_8 ?_
  refine j_iload_n dJ6_charAt_11 1 rfl ?_
  refine j_callS [pR (some aV), pI i] [] _ kT_v (bS_mv _ _ _ _) (s_latChar k hk hi) s_wLat s_dLat rfl ⟨(Nat.le_of_ble_eq_true rfl), (Nat.le_of_ble_eq_true rfl)⟩ rfl (Nat.le_of_ble_eq_true rfl) dJ6_charAt_12 ⟨Nat.le_refl 0, Nat.le_refl 0⟩ ?_
  exact j_zreturn (bS_mv _ _ _ _) ⟨Nat.le_refl 0, Nat.le_refl 0⟩ rfl (nar_c hb) dJ6_charAt_15
end
