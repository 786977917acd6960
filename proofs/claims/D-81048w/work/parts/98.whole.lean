/-! WHOLE: from the law's entry to its end -/
/-- the relation when other cells have been made -/
theorem RC_01 {G : CG} {o bE n : Nat} {t : Sg} {m : Mu} (h : RC G (L00 o bE) t m) (hz : zN t = o + 52) (hn : zN t ≤ n) : RC G (L00 o bE) (setN t n) m := by
  refine RC_ext h ⟨⟨hn, fun x _ => ⟨rfl, rfl⟩⟩, fun _ _ => rfl, fun a ha => ?_⟩ (fun q _ => ⟨rfl, rfl, rfl, rfl, rfl, rfl⟩) (fun _ _ => rfl)
  show a < n
  have ha : (if a < o then 1 else if a - o < 52 then colR (a - o) else 0) ≠ 0 := ha
  by_cases h1 : a < o
  · omega
  · rw [if_neg h1] at ha
    by_cases h2 : a - o < 52
    · omega
    · rw [if_neg h2] at ha; exact absurd rfl ha
theorem whole_start {p : Program} {e : Env} {s : State} {m : MethodId} {below : List Frame} {meth : Method} {c : Code} (l : Launch) (hflags : l.flags = flags0) {b L : Nat} {xs : Nat → Int32} (hL : L ≤ 384) (C0 : lw_At p s m meth c b L xs) : W p l e room_1 s m #[Value.ref b] below meth c s.heap [] 0 0 (lw_Z below #[Value.ref b] s) (entryFrame m ([Value.ref b] : List Value).toArray 4) := by
  obtain ⟨hx, hc, hr, hml, hown, ht, hX, hbl, hlk, hn⟩ := C0
  have hs : ∀ c ∈ flatC b_nw, c.before #[Value.ref b] s = true := flat_of_before b_nw hn
  obtain ⟨G, u0, bE, hG, hB, hN, hSt, hE⟩ := s_begin ht hs
  obtain ⟨aK, aV, f, hbs, hvk⟩ := s_str (A := aL G) ht hs (fun a ha h => by unfold aL at h; omega)
  have hfl : l.stackTraces = false := by
    unfold Launch.stackTraces
    rw [hflags]
    decide
  have hSt' : St G u0 := hSt
  obtain ⟨g1, g2, g3, g4, g5⟩ := hE
  have hG0 : G0 G = zN u0 := hG.trans hN.symm
  have D0 : DB G bE u0 u0 0 (zN u0) (znew u0 1 0) 1 [] [] [] [] 0 := by
    refine ⟨⟨znew_N, Nat.le_refl _, fun q hq => sam_znew sam_rf (by omega), ⟨Nat.zero_le _, fun q hq => absurd hq (Nat.not_lt_zero _), Or.inl rfl⟩, Nat.le_of_eq hG0, by rw [hN, ← hG]; exact g2, g1, g3, g4, g5⟩, ⟨by rw [znew_T, if_pos rfl], fun j => by rw [znew_I, if_pos rfl]; split <;> rfl, by rw [znew_L, if_pos rfl]⟩, fun x hx => (nomatch hx), fun x hx => (nomatch hx), fun k hk => (nomatch hk), fun h => absurd rfl h, fun i hi => absurd hi (Nat.not_lt_zero _)⟩
  obtain ⟨⟨u1, c0, n0⟩, hf, ⟨s1, D, SP⟩, hc0, hn0⟩ := c_ctor D0
  have hR := RC_00 hSt' hG0 D SP M00_mE
  have hz : zN u1 = zN u0 + 52 := D.1.1
  have hl := lv_entry ([pR (some b)].map mv) (n := 4) (by rw [jsz_eq]; exact Nat.le_of_ble_eq_true rfl)
  rw [jargs_eq] at hl
  have key := l_start (G := G) (b := b) (L := L) (xs := xs) (l := l) (nm := meth.name) hf hc0 hn0 (fun G' n ce sl h1 h2 h3 => l_loop hfl hL 64 0 0 0 _ _ ce sl (by omega) (by omega) (by omega) ⟨⟨L00 (zN u0) bE, RC_01 hR hz (by omega), (L00_1 (k := 0) (by decide)).trans (Nat.add_zero _)⟩, ⟨by rw [M00_mE.1 2]; decide, by omega⟩, by omega, by omega⟩)
  have w := key p e s m below meth c s.heap [] _ ⟨hx, hc, hml, hown, fun w hw => ht w (lw_all_tbl hw)⟩ hr hlk rfl ⟨s_kC ht, hX, hbl, hG, aK, aV, f, hbs, hvk⟩ hB va_S.rf hl
  rw [lg_entry_eq]
  exact w
