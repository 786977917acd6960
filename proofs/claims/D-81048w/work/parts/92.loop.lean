/-! THE LAW'S LOOP (printed by gen_step.py) -/
section
variable {G : CG} {G' : MG} {b L : Nat} {xs : Nat → Int32} {l : Launch} {nm : String} {o : Nat}
def pcL : List Nat := [208, 271, 284, 297, 320, 353, 396, 429, 462, 495, 518, 541, 564, 617, 660, 693, 726, 759, 792, 835, 868, 881, 944, 997, 1050, 1093, 1126, 1170, 1213, 1256, 1279, 1312, 1336, 1370, 1404, 1437, 1470, 1494, 1527, 1551]
theorem l_sw {u : Sg} {m : Mu} {ce sl i : Nat} (hL : 6 * i + 6 ≤ L) (hL4 : L ≤ 384) (k : ∀ z : Nat, z < 40 → LJ G G' b L xs l nm (u, m) o ce sl (pcL.getD z 0) i []) (kout : LJ G G' b L xs l nm (u, m) o ce sl 1574 i []) : LJ G G' b L xs l nm (u, m) o ce sl 27 i [] := by
  refine j_aload_n dL_law_27 3 rfl ?_
  refine j_iload_n dL_law_28 0 rfl ?_
  refine l_xld (6 * i) (by omega) (w32_id (by omega) (by omega)) dL_law_29 ?_
  refine j_bipush dL_law_30 (by decide) ?_
  refine j_iand dL_law_32 ?_
  by_cases hz : w32 (and32 (xI xs (6 * i)) 63) < 0 ∨ 39 < w32 (and32 (xI xs (6 * i)) 63)
  · exact j_tabOut 1574 dL_law_33 hz (by decide) kout
  · have hn : (w32 (and32 (xI xs (6 * i)) 63)).toNat < 40 := by omega
    have h40 : ∀ z : Nat, z < 40 → ∃ off : Int, (#[175, 238, 251, 264, 287, 320, 363, 396, 429, 462, 485, 508, 531, 584, 627, 660, 693, 726, 759, 802, 835, 848, 911, 964, 1017, 1060, 1093, 1137, 1180, 1223, 1246, 1279, 1303, 1337, 1371, 1404, 1437, 1461, 1494, 1518] : Array Int)[z]? = some off ∧ ((33 : Nat) : Int) + off = ((pcL.getD z 0 : Nat) : Int) := by decide
    obtain ⟨off, e1, e2⟩ := h40 _ hn
    exact j_tabIn _ dL_law_33 (z := ((w32 (and32 (xI xs (6 * i)) 63)).toNat : Int)) (by omega) ⟨⟨by omega, by omega⟩, by rw [show (((w32 (and32 (xI xs (6 * i)) 63)).toNat : Int) - 0).toNat = (w32 (and32 (xI xs (6 * i)) 63)).toNat by omega]; exact e1⟩ e2 (k _ hn)
theorem l_hd {u : Sg} {m : Mu} {ce sl i : Nat} (hL4 : L ≤ 384) (hi : i ≤ 64) (hcs : ce ≤ 601024 ∧ sl ≤ 7293034) (kk : 6 * i + 6 ≤ L → LJ G G' b L xs l nm (u, m) o ce sl 27 i []) : LJ G G' b L xs l nm (u, m) o ce sl 18 i [] := by
  refine j_iload_n dL_law_18 0 rfl ?_
  refine j_aload_n dL_law_19 3 rfl ?_
  refine l_xlen dL_law_20 ?_
  refine j_bipush dL_law_21 (by decide) ?_
  refine j_isub dL_law_23 ?_
  refine j_icmp_gt ((6 * i : Nat) : Int) ((L : Int) - 6) (w32_id (by omega) (by omega)) (w32_id (by omega) (by omega)) 1580 dL_law_24 (by decide) (fun h => ?_) (fun h => ?_)
  · exact l_end hcs
  · exact kk (by omega)
theorem l_loop (hfl : l.stackTraces = false) (hL4 : L ≤ 384) : ∀ (n i a c : Nat) (u : Sg) (m : Mu) (ce sl : Nat), 64 ≤ i + n → i ≤ 64 → a + c ≤ i → IV G o a c u m ce sl → LJ G G' b L xs l nm (u, m) o ce sl 18 i [] := by
  intro n
  induction n with
  | zero => exact fun i a c u m ce sl hn hi hac h => l_hd hL4 hi (IV_cs h (by omega)) (fun hL => absurd hL (by omega))
  | succ n ih =>
    intro i a c u m ce sl hn hi hac h
    refine l_hd hL4 hi (IV_cs h (by omega)) (fun hL => l_sw hL hL4 (fun z hz => ?_) (l_next (ih (i + 1) a c u m ce sl (by omega) (by omega) (by omega) h)))
    have ht := IV_ht h
    have w := xI_w xs
    have hc := IV_cs h (by omega)
    rcases Nat.lt_or_ge z 1 with hq | hq
    · obtain rfl : z = 0 := by omega
      obtain ⟨r0, r5, hf, hm, he, hI⟩ := st_type h (or64 (shl64 (w32 (xI xs (6 * i + 1))) 32) (and64 (w32 (xI xs (6 * i + 2))) 4294967295)) (xI xs (6 * i + 3)) (w _)
      exact cs_0 hL hL4 ht hf hm he hc (l_next (ih (i + 1) (a + 1) c _ _ _ _ (by omega) (by omega) (by omega) hI))
    rcases Nat.lt_or_ge z 2 with hq | hq
    · obtain rfl : z = 1 := by omega
      obtain ⟨r0, r5, hf, hm, he⟩ := st_place h
      exact cs_1 hL hL4 ht hf hm he hc (l_next (ih (i + 1) a c _ _ _ _ (by omega) (by omega) (by omega) h))
    rcases Nat.lt_or_ge z 3 with hq | hq
    · obtain rfl : z = 2 := by omega
      obtain ⟨r0, c0, n0, r5, hf, hm, he, hI⟩ := st_wording h (by omega)
      exact cs_2 hfl hL hL4 ht hf hm he (IV_cs hI (by omega)) (l_next (ih (i + 1) a (c + 1) _ _ _ _ (by omega) (by omega) (by omega) hI))
    rcases Nat.lt_or_ge z 4 with hq | hq
    · obtain rfl : z = 3 := by omega
      obtain ⟨r0, c0, n0, r5, hf, hm, he, hI⟩ := st_endorse h (by omega) (xI xs (6 * i + 1)) (w _)
      exact cs_3 hfl hL hL4 ht hf hm he (IV_cs hI (by omega)) (l_next (ih (i + 1) a (c + 1) _ _ _ _ (by omega) (by omega) (by omega) hI))
    rcases Nat.lt_or_ge z 5 with hq | hq
    · obtain rfl : z = 4 := by omega
      obtain ⟨r0, r5, hf, hm, he⟩ := st_wordingPart h (xI xs (6 * i + 1)) (xI xs (6 * i + 2)) (w _) (w _)
      exact cs_4 hL hL4 ht hf hm he hc (l_next (ih (i + 1) a c _ _ _ _ (by omega) (by omega) (by omega) h))
    rcases Nat.lt_or_ge z 6 with hq | hq
    · obtain rfl : z = 5 := by omega
      obtain ⟨r0, r5, hf, hm, he⟩ := st_factPart h (xI xs (6 * i + 1)) (xI xs (6 * i + 2)) (xI xs (6 * i + 3)) (w _) (w _) (w _)
      exact cs_5 hL hL4 ht hf hm he hc (l_next (ih (i + 1) a c _ _ _ _ (by omega) (by omega) (by omega) h))
    rcases Nat.lt_or_ge z 7 with hq | hq
    · obtain rfl : z = 6 := by omega
      obtain ⟨r0, r5, hf, hm, he⟩ := st_clause h (xI xs (6 * i + 1)) (xI xs (6 * i + 2)) (w _) (w _)
      exact cs_6 hL hL4 ht hf hm he hc (l_next (ih (i + 1) a c _ _ _ _ (by omega) (by omega) (by omega) h))
    rcases Nat.lt_or_ge z 8 with hq | hq
    · obtain rfl : z = 7 := by omega
      obtain ⟨r0, r5, hf, hm, he, hI⟩ := st_compare h (xI xs (6 * i + 1)) (xI xs (6 * i + 2)) (w _) (w _)
      exact cs_7 hL hL4 ht hf hm he hc (l_next (ih (i + 1) a c _ _ _ _ (by omega) (by omega) (by omega) hI))
    rcases Nat.lt_or_ge z 9 with hq | hq
    · obtain rfl : z = 8 := by omega
      obtain ⟨r0, r5, hf, hm, he⟩ := st_apart h (xI xs (6 * i + 1)) (xI xs (6 * i + 2)) (w _) (w _)
      exact cs_8 hL hL4 ht hf hm he hc (l_next (ih (i + 1) a c _ _ _ _ (by omega) (by omega) (by omega) h))
    rcases Nat.lt_or_ge z 10 with hq | hq
    · obtain rfl : z = 9 := by omega
      obtain ⟨r0, c0, n0, r5, hf, hm, he, hI⟩ := st_judge h (by omega) (xI xs (6 * i + 1)) (w _)
      exact cs_9 hfl hL hL4 ht hf hm he (IV_cs hI (by omega)) (l_next (ih (i + 1) a (c + 1) _ _ _ _ (by omega) (by omega) (by omega) hI))
    rcases Nat.lt_or_ge z 11 with hq | hq
    · obtain rfl : z = 10 := by omega
      obtain ⟨r0, r5, hf, hm, he⟩ := st_shown h (xI xs (6 * i + 1)) (w _)
      exact cs_10 hL hL4 ht hf hm he hc (l_next (ih (i + 1) a c _ _ _ _ (by omega) (by omega) (by omega) h))
    rcases Nat.lt_or_ge z 12 with hq | hq
    · obtain rfl : z = 11 := by omega
      obtain ⟨r0, c0, n0, r5, hf, hm, he, hI⟩ := st_event h (by omega) (xI xs (6 * i + 1)) (w _)
      exact cs_11 hL hL4 ht hf hm he (IV_cs hI (by omega)) (l_next (ih (i + 1) a (c + 1) _ _ _ _ (by omega) (by omega) (by omega) hI))
    rcases Nat.lt_or_ge z 13 with hq | hq
    · obtain rfl : z = 12 := by omega
      obtain ⟨r0, r5, hf, hm, he, hI⟩ := st_tell h (xI xs (6 * i + 1)) (xI xs (6 * i + 2)) (xI xs (6 * i + 3)) (xI xs (6 * i + 4)) (w _) (w _) (w _) (w _)
      exact cs_12 hL hL4 ht hf hm he hc (l_next (ih (i + 1) a c _ _ _ _ (by omega) (by omega) (by omega) hI))
    rcases Nat.lt_or_ge z 14 with hq | hq
    · obtain rfl : z = 13 := by omega
      obtain ⟨r0, r5, hf, hm, he⟩ := st_fact h (xI xs (6 * i + 1)) (xI xs (6 * i + 2)) (xI xs (6 * i + 3)) (w _) (w _) (w _)
      exact cs_13 hL hL4 ht hf hm he hc (l_next (ih (i + 1) a c _ _ _ _ (by omega) (by omega) (by omega) h))
    rcases Nat.lt_or_ge z 15 with hq | hq
    · obtain rfl : z = 14 := by omega
      obtain ⟨r0, r5, hf, hm, he, hI⟩ := st_covers h (xI xs (6 * i + 1)) (xI xs (6 * i + 2)) (w _) (w _)
      exact cs_14 hL hL4 ht hf hm he hc (l_next (ih (i + 1) a c _ _ _ _ (by omega) (by omega) (by omega) hI))
    rcases Nat.lt_or_ge z 16 with hq | hq
    · obtain rfl : z = 15 := by omega
      obtain ⟨r0, r5, hf, hm, he, hI⟩ := st_settles h (xI xs (6 * i + 1)) (xI xs (6 * i + 2)) (w _) (w _)
      exact cs_15 hL hL4 ht hf hm he hc (l_next (ih (i + 1) a c _ _ _ _ (by omega) (by omega) (by omega) hI))
    rcases Nat.lt_or_ge z 17 with hq | hq
    · obtain rfl : z = 16 := by omega
      obtain ⟨r0, r5, hf, hm, he, hI⟩ := st_because h (xI xs (6 * i + 1)) (xI xs (6 * i + 2)) (w _) (w _)
      exact cs_16 hL hL4 ht hf hm he hc (l_next (ih (i + 1) a c _ _ _ _ (by omega) (by omega) (by omega) hI))
    rcases Nat.lt_or_ge z 18 with hq | hq
    · obtain rfl : z = 17 := by omega
      obtain ⟨r0, r5, hf, hm, he, hI⟩ := st_decider h (xI xs (6 * i + 1)) (xI xs (6 * i + 2)) (w _) (w _)
      exact cs_17 hL hL4 ht hf hm he hc (l_next (ih (i + 1) a c _ _ _ _ (by omega) (by omega) (by omega) hI))
    rcases Nat.lt_or_ge z 19 with hq | hq
    · obtain rfl : z = 18 := by omega
      obtain ⟨r0, r5, hf, hm, he, hI⟩ := st_ways h (xI xs (6 * i + 1)) (xI xs (6 * i + 2)) (xI xs (6 * i + 3)) (w _) (w _) (w _)
      exact cs_18 hL hL4 ht hf hm he hc (l_next (ih (i + 1) a c _ _ _ _ (by omega) (by omega) (by omega) hI))
    rcases Nat.lt_or_ge z 20 with hq | hq
    · obtain rfl : z = 19 := by omega
      obtain ⟨r0, r5, hf, hm, he, hI⟩ := st_price h (xI xs (6 * i + 1)) (xI xs (6 * i + 2)) (w _) (w _)
      exact cs_19 hL hL4 ht hf hm he hc (l_next (ih (i + 1) a c _ _ _ _ (by omega) (by omega) (by omega) hI))
    rcases Nat.lt_or_ge z 21 with hq | hq
    · obtain rfl : z = 20 := by omega
      obtain ⟨r0, c0, n0, r5, hf, hm, he, hI⟩ := st_policy h (by omega)
      exact cs_20 hL hL4 ht hf hm he (IV_cs hI (by omega)) (l_next (ih (i + 1) a (c + 1) _ _ _ _ (by omega) (by omega) (by omega) hI))
    rcases Nat.lt_or_ge z 22 with hq | hq
    · obtain rfl : z = 21 := by omega
      obtain ⟨r0, r5, hf, hm, he, hI⟩ := st_change h (xI xs (6 * i + 1)) (xI xs (6 * i + 2)) (xI xs (6 * i + 3)) (xI xs (6 * i + 4)) (xI xs (6 * i + 5)) (w _) (w _) (w _) (w _) (w _)
      exact cs_21 hL hL4 ht hf hm he hc (l_next (ih (i + 1) a c _ _ _ _ (by omega) (by omega) (by omega) hI))
    rcases Nat.lt_or_ge z 23 with hq | hq
    · obtain rfl : z = 22 := by omega
      obtain ⟨r0, r5, hf, hm, he⟩ := st_holds h (xI xs (6 * i + 1)) (xI xs (6 * i + 2)) (xI xs (6 * i + 3)) (xI xs (6 * i + 4)) (w _) (w _) (w _) (w _)
      exact cs_22 hL hL4 ht hf hm he hc (l_next (ih (i + 1) a c _ _ _ _ (by omega) (by omega) (by omega) h))
    rcases Nat.lt_or_ge z 24 with hq | hq
    · obtain rfl : z = 23 := by omega
      obtain ⟨r0, c0, n0, r5, hf, hm, he, hI⟩ := st_claim h (by omega) (xI xs (6 * i + 1)) (xI xs (6 * i + 2)) (xI xs (6 * i + 3)) (xI xs (6 * i + 4)) (w _) (w _) (w _) (w _)
      exact cs_23 hL hL4 ht hf hm he (IV_cs hI (by omega)) (l_next (ih (i + 1) a (c + 1) _ _ _ _ (by omega) (by omega) (by omega) hI))
    rcases Nat.lt_or_ge z 25 with hq | hq
    · obtain rfl : z = 24 := by omega
      obtain ⟨r0, r5, hf, hm, he, hI⟩ := st_loss h (xI xs (6 * i + 1)) (xI xs (6 * i + 2)) (xI xs (6 * i + 3)) (w _) (w _) (w _)
      exact cs_24 hL hL4 ht hf hm he hc (l_next (ih (i + 1) a c _ _ _ _ (by omega) (by omega) (by omega) hI))
    rcases Nat.lt_or_ge z 26 with hq | hq
    · obtain rfl : z = 25 := by omega
      obtain ⟨r0, r5, hf, hm, he, hI⟩ := st_pay h (xI xs (6 * i + 1)) (xI xs (6 * i + 2)) (w _) (w _)
      exact cs_25 hL hL4 ht hf hm he hc (l_next (ih (i + 1) a c _ _ _ _ (by omega) (by omega) (by omega) hI))
    rcases Nat.lt_or_ge z 27 with hq | hq
    · obtain rfl : z = 26 := by omega
      obtain ⟨r0, r5, hf, hm, he, hI⟩ := st_used h (xI xs (6 * i + 1)) (xI xs (6 * i + 2)) (xI xs (6 * i + 3)) (w _) (w _) (w _)
      exact cs_26 hL hL4 ht hf hm he hc (l_next (ih (i + 1) a c _ _ _ _ (by omega) (by omega) (by omega) hI))
    rcases Nat.lt_or_ge z 28 with hq | hq
    · obtain rfl : z = 27 := by omega
      obtain ⟨r0, r5, hf, hm, he, hI⟩ := st_treaty h (xI xs (6 * i + 1)) (xI xs (6 * i + 2)) (xI xs (6 * i + 3)) (w _) (w _) (w _)
      exact cs_27 hL hL4 ht hf hm he hc (l_next (ih (i + 1) a c _ _ _ _ (by omega) (by omega) (by omega) hI))
    rcases Nat.lt_or_ge z 29 with hq | hq
    · obtain rfl : z = 28 := by omega
      obtain ⟨r0, r5, hf, hm, he, hI⟩ := st_ceded h (xI xs (6 * i + 1)) (xI xs (6 * i + 2)) (xI xs (6 * i + 3)) (w _) (w _) (w _)
      exact cs_28 hL hL4 ht hf hm he hc (l_next (ih (i + 1) a c _ _ _ _ (by omega) (by omega) (by omega) hI))
    rcases Nat.lt_or_ge z 30 with hq | hq
    · obtain rfl : z = 29 := by omega
      obtain ⟨r0, r5, hf, hm, he, hI⟩ := st_close h (xI xs (6 * i + 1)) (w _)
      exact cs_29 hL hL4 ht hf hm he hc (l_next (ih (i + 1) a c _ _ _ _ (by omega) (by omega) (by omega) hI))
    rcases Nat.lt_or_ge z 31 with hq | hq
    · obtain rfl : z = 30 := by omega
      obtain ⟨r0, r5, hf, hm, he⟩ := st_row h (xI xs (6 * i + 1)) (xI xs (6 * i + 2)) (w _)
      exact cs_30 hL hL4 ht hf hm he hc (l_next (ih (i + 1) a c _ _ _ _ (by omega) (by omega) (by omega) h))
    rcases Nat.lt_or_ge z 32 with hq | hq
    · obtain rfl : z = 31 := by omega
      obtain ⟨r0, r5, hf, hm, he⟩ := st_balance h (xI xs (6 * i + 1))
      exact cs_31 hL hL4 ht hf hm he hc (l_next (ih (i + 1) a c _ _ _ _ (by omega) (by omega) (by omega) h))
    rcases Nat.lt_or_ge z 33 with hq | hq
    · obtain rfl : z = 32 := by omega
      obtain ⟨r0, r5, hf, hm, he, hI⟩ := st_paid h (xI xs (6 * i + 1)) (xI xs (6 * i + 2)) (w _) (w _)
      exact cs_32 hL hL4 ht hf hm he hc (l_next (ih (i + 1) a c _ _ _ _ (by omega) (by omega) (by omega) hI))
    rcases Nat.lt_or_ge z 34 with hq | hq
    · obtain rfl : z = 33 := by omega
      obtain ⟨r0, r5, hf, hm, he, hI⟩ := st_end h (xI xs (6 * i + 1)) (xI xs (6 * i + 2)) (w _) (w _)
      exact cs_33 hL hL4 ht hf hm he hc (l_next (ih (i + 1) a c _ _ _ _ (by omega) (by omega) (by omega) hI))
    rcases Nat.lt_or_ge z 35 with hq | hq
    · obtain rfl : z = 34 := by omega
      obtain ⟨r0, r5, hf, hm, he, hI⟩ := st_size h (xI xs (6 * i + 1)) (xI xs (6 * i + 2)) (w _) (w _)
      exact cs_34 hL hL4 ht hf hm he hc (l_next (ih (i + 1) a c _ _ _ _ (by omega) (by omega) (by omega) hI))
    rcases Nat.lt_or_ge z 36 with hq | hq
    · obtain rfl : z = 35 := by omega
      obtain ⟨r0, r5, hf, hm, he, hI⟩ := st_count h (xI xs (6 * i + 1)) (xI xs (6 * i + 2)) (w _) (w _)
      exact cs_35 hL hL4 ht hf hm he hc (l_next (ih (i + 1) a c _ _ _ _ (by omega) (by omega) (by omega) hI))
    rcases Nat.lt_or_ge z 37 with hq | hq
    · obtain rfl : z = 36 := by omega
      obtain ⟨r0, r5, hf, hm, he, hI⟩ := st_mass h (xI xs (6 * i + 1)) (w _)
      exact cs_36 hL hL4 ht hf hm he hc (l_next (ih (i + 1) a c _ _ _ _ (by omega) (by omega) (by omega) hI))
    rcases Nat.lt_or_ge z 38 with hq | hq
    · obtain rfl : z = 37 := by omega
      obtain ⟨r0, r5, hf, hm, he, hI⟩ := st_quantile h (xI xs (6 * i + 1)) (xI xs (6 * i + 2)) (w _) (w _)
      exact cs_37 hL hL4 ht hf hm he hc (l_next (ih (i + 1) a c _ _ _ _ (by omega) (by omega) (by omega) hI))
    rcases Nat.lt_or_ge z 39 with hq | hq
    · obtain rfl : z = 38 := by omega
      obtain ⟨r0, r5, hf, hm, he, hI⟩ := st_beyond h (xI xs (6 * i + 1)) (w _)
      exact cs_38 hL hL4 ht hf hm he hc (l_next (ih (i + 1) a c _ _ _ _ (by omega) (by omega) (by omega) hI))
    obtain rfl : z = 39 := by omega
    obtain ⟨r0, r5, hf, hm, he⟩ := st_told h (xI xs (6 * i + 1))
    exact cs_39 hL hL4 ht hf hm he hc (l_next (ih (i + 1) a c _ _ _ _ (by omega) (by omega) (by omega) h))
end
