/-- field k of the object b of class ci takes v -/
def zPut (w s1 : Sg) (ci b k : Nat) (v : PV) : Prop := zT s1 = zT w ∧ zN s1 = zN w ∧ (∀ q, q ≠ b → zL s1 q = zL w q ∧ zI s1 q = zI w q ∧ zR s1 q = zR w q ∧ zA s1 q = zA w q ∧ zB s1 q = zB w q) ∧ oV s1 ci b k = mv v ∧ ∀ j, j ≠ k → oV s1 ci b j = oV w ci b j
theorem zPutI {w : Sg} {ci b k : Nat} {z : Int} (h : fkd (40 * ci + k) = 0) : zPut w (zsI w b (40 * ci + k) z) ci b k (pI z) := by
  refine ⟨rfl, rfl, fun q hq => ⟨rfl, up2_ne hq, rfl, rfl, rfl⟩, ?_, fun j hj => ?_⟩
  · unfold oV; rw [h]; show Value.int (jI (up2 (zI w) b (40 * ci + k) z b (40 * ci + k))) = _; rw [up2_at]; rfl
  · unfold oV; show (match fkd (40 * ci + j) with | 0 => Value.int (jI (up2 (zI w) b (40 * ci + k) z b (40 * ci + j))) | 1 => Value.long (jL (up2 (zI w) b (40 * ci + k) z b (40 * ci + j))) | _ => va_rf (zR w b (40 * ci + j))) = _
    rw [up2_k (by omega)]
    rfl
theorem zPutL {w : Sg} {ci b k : Nat} {z : Int} (h : fkd (40 * ci + k) = 1) : zPut w (zsI w b (40 * ci + k) z) ci b k (pL z) := by
  refine ⟨rfl, rfl, fun q hq => ⟨rfl, up2_ne hq, rfl, rfl, rfl⟩, ?_, fun j hj => ?_⟩
  · unfold oV; rw [h]; show Value.long (jL (up2 (zI w) b (40 * ci + k) z b (40 * ci + k))) = _; rw [up2_at]; rfl
  · unfold oV; show (match fkd (40 * ci + j) with | 0 => Value.int (jI (up2 (zI w) b (40 * ci + k) z b (40 * ci + j))) | 1 => Value.long (jL (up2 (zI w) b (40 * ci + k) z b (40 * ci + j))) | _ => va_rf (zR w b (40 * ci + j))) = _
    rw [up2_k (by omega)]
    rfl
theorem zPutR {w : Sg} {ci b k : Nat} {z : Option Nat} (h : fkd (40 * ci + k) = 2) : zPut w (zsR w b (40 * ci + k) z) ci b k (pR z) := by
  refine ⟨rfl, rfl, fun q hq => ⟨rfl, rfl, up2_ne hq, rfl, rfl⟩, ?_, fun j hj => ?_⟩
  · unfold oV; rw [h]; show va_rf (up2 (zR w) b (40 * ci + k) z b (40 * ci + k)) = _; rw [up2_at]; rfl
  · unfold oV; show (match fkd (40 * ci + j) with | 0 => Value.int (jI (zI w b (40 * ci + j))) | 1 => Value.long (jL (zI w b (40 * ci + j))) | _ => va_rf (up2 (zR w) b (40 * ci + k) z b (40 * ci + j))) = _
    rw [up2_k (by omega)]
    rfl
theorem fits_I {x : Int} : narrow .int (mv (pI x)) = mv (pI x) ∧ fits .int (mv (pI x)) = true := ⟨rfl, rfl⟩
theorem fits_L {x : Int} : narrow .long (mv (pL x)) = mv (pL x) ∧ fits .long (mv (pL x)) = true := ⟨rfl, rfl⟩
theorem fits_Z {x : Int} (h : w32 x = 0 ∨ w32 x = 1) : narrow .boolean (mv (pI x)) = mv (pI x) ∧ fits .boolean (mv (pI x)) = true := by
  refine ⟨nar_z h, ?_⟩
  rcases h with h | h
  · have e : jI x = jI 0 := I_eq.mpr h
    show (jI x == 0 || jI x == 1) = true
    rw [e]; rfl
  · have e : jI x = jI 1 := I_eq.mpr h
    show (jI x == 0 || jI x == 1) = true
    rw [e]; rfl
theorem fits_O {n : String} {r : Option Nat} : narrow (.object n) (mv (pR r)) = mv (pR r) ∧ fits (.object n) (mv (pR r)) = true := by cases r <;> exact ⟨rfl, rfl⟩
theorem fits_A {t : FieldType} {r : Option Nat} : narrow (.array t) (mv (pR r)) = mv (pR r) ∧ fits (.array t) (mv (pR r)) = true := by cases r <;> exact ⟨rfl, rfl⟩
theorem bC_put {G : CG} {A : Nat → Prop} {w s1 : Sg} {U : State} {H H1 : Heap} {b ci k N : Nat} {C : String} {T : u_T} {ty : Nat → FieldType} {v : PV} (hB : bC G A w U H) (hc : zCl ci C T N ty) (ht : zT w b = ci + 1) (hb : G.2.2.2.1 ≤ b) (hs : zPut w s1 ci b k v) (hz : H1.size = H.size) (oq : ∀ q : Nat, q ≠ b → H1[q]? = H[q]?) (h1 : t_OB b (G.1 ci) N (G.2.1 ci) H1 (updV (oV w ci b) k (mv v))) (h9 : ci = 8 → mon H1 b) : bC G A s1 U H1 := by
  obtain ⟨e1, e2, e3, e4, e5⟩ := hs
  refine bC_write hB (by rw [ht]; omega) hb hz oq ⟨fun cj h2 h3 => ?_, fun t h2 h3 h4 => ?_⟩ e1 e3 e2
  · rw [e1, ht] at h2
    have : cj = ci := by omega
    subst this
    refine ⟨_, hc.2.1, oOb.of (h1.to fun j hj => ?_), fun h8 => ⟨h9 h8, hb⟩⟩
    unfold updV
    by_cases hjk : j = k
    · rw [if_pos hjk, hjk, e4]
    · rw [if_neg hjk, e5 j hjk]
  · rw [e1, ht] at h2
    have := hc.1.1
    omega
section CPut
variable {G : CG} {A : Nat → Prop} {l : Launch} {D : MD} {a : List PV} {Q : List Frame → State → State → Prop} {w w1 : Sg} {mc ms ce sl pc : Nat} {lv lv' : List (Nat × PV)} {st : List PV}
theorem c_put {ci k N idx b : Nat} {C ref : String} {T : u_T} {ty : Nat → FieldType} {v : PV} {s1 : Sg} (hc : zCl ci C T N ty) (hk : k < N) (hf : zFl D.1 idx ref T k) (ht : zT w b = ci + 1) (hb : G.2.2.2.1 ≤ b) (hfin : (T k).2.2.2 = false) (hfit : narrow (ty k) (mv v) = mv v ∧ fits (ty k) (mv v) = true) (hs : zPut w s1 ci b k v) (hd : decode D.2.1 pc = .ok (.putfield idx, 3)) (kk : JW kC (bC G A) A l D a Q mc ms s1 ce sl (pc + 3) lv st) : JW kC (bC G A) A l D a Q mc ms w ce sl pc lv (v :: pR (some b) :: st) := by
  intro p e s m below meth c H locs ls X hr hlk hn hK hB hS hl
  obtain ⟨cell, q1, q2, q3, q4⟩ := bC_obj hB hc ht hb
  have hap := va_apart (own := C) X.2.2.2.2 hc.2.2.1 ty hc.2.2.2.1 hc.2.2.2.2.1 hB.1 (ci := ci) hc.2.1
  obtain ⟨hSl, hfc, kC, hkC, hkind⟩ := hB.1.1 ci _ hc.2.1
  obtain ⟨cf, kf, fi, f, hi, hsl⟩ := hSl k hk
  have hlay := X.2.2.2.2 _ (hc.2.2.1 _ (u_in_lay hk))
  unfold u_lay at hlay
  rw [if_neg (by rw [hfin]; decide)] at hlay
  have hst := (u_facts hfc hkC (u_lays X.2.2.2.2 hc.2.2.1 hk) hi).1
  have h6 := u_store hfc hkC hkind hlay hi (hc.2.2.2.1 k hk) hfit.1 hfit.2
  refine W.putK X.1 X.2.1 (f := f) (v := mv v) ⟨X.2.2.2.1, X.2.2.2.2 _ hf.1, ⟨_, _, _, hf.2 s _ X.2.2.2.2 _ hi⟩, hst⟩ (by rw [q2]; exact h6) q1 q3 (by rw [hsl]; exact k2_hasslot (q4 k hk)) rfl rfl hd fun H' e1 e2 e3 => ?_
  rw [hsl] at e1 ⊢
  exact kk p e s m below meth c H' _ ls X hr hlk hn hK (bC_put hB hc ht hb hs e2 e3 ⟨_, e1, q2, q3, t_set q4 hap hk (mv v)⟩ (fun h8 c9 h9 => by cases Option.some.inj (e1.symm.trans h9); exact (show cell.monitor.owner = none ∧ cell.monitor.count = 0 from bC_mon hB hc.1 ht h8 cell q1))) (hS.put e2 e3 (hB.2.2.2.1.2.2.1 b (by rw [ht]; omega) hb)) hl
theorem c_putN {ci k N idx b : Nat} {C ref : String} {T : u_T} {ty : Nat → FieldType} {v : PV} {s1 : Sg} (hc : zCl ci C T N ty) (hk : k < N) (hf : zFn D.1 idx T k ref) (ht : zT w b = ci + 1) (hb : G.2.2.2.1 ≤ b) (hfin : (T k).2.2.2 = false) (hfit : narrow (ty k) (mv v) = mv v ∧ fits (ty k) (mv v) = true) (hs : zPut w s1 ci b k v) (hd : decode D.2.1 pc = .ok (.putfield idx, 3)) (kk : JW kC (bC G A) A l D a Q mc ms s1 ce sl (pc + 3) lv st) : JW kC (bC G A) A l D a Q mc ms w ce sl pc lv (v :: pR (some b) :: st) := by
  intro p e s m below meth c H locs ls X hr hlk hn hK hB hS hl
  obtain ⟨cell, q1, q2, q3, q4⟩ := bC_obj hB hc ht hb
  have hap := va_apart (own := C) X.2.2.2.2 hc.2.2.1 ty hc.2.2.2.1 hc.2.2.2.2.1 hB.1 (ci := ci) hc.2.1
  obtain ⟨hSl, hfc, kC, hkC, hkind⟩ := hB.1.1 ci _ hc.2.1
  obtain ⟨cf, kf, fi, f, hi, hsl⟩ := hSl k hk
  have hlay := X.2.2.2.2 _ (hc.2.2.1 _ (u_in_lay hk))
  unfold u_lay at hlay
  rw [if_neg (by rw [hfin]; decide)] at hlay
  have hst := (u_facts hfc hkC (u_lays X.2.2.2.2 hc.2.2.1 hk) hi).1
  have h6 := u_store hfc hkC hkind hlay hi (hc.2.2.2.1 k hk) hfit.1 hfit.2
  refine va_WputK X.1 X.2.1 (f := f) (v := mv v) X.2.2.2.1 (va_Nw.use rfl (hK.1 _ hf rfl)) hi hst (by rw [q2]; exact h6) q1 q3 (by rw [hsl]; exact k2_hasslot (q4 k hk)) rfl rfl hd fun H' e1 e2 e3 => ?_
  rw [hsl] at e1 ⊢
  exact kk p e s m below meth c H' _ ls X hr hlk hn hK (bC_put hB hc ht hb hs e2 e3 ⟨_, e1, q2, q3, t_set q4 hap hk (mv v)⟩ (fun h8 c9 h9 => by cases Option.some.inj (e1.symm.trans h9); exact (show cell.monitor.owner = none ∧ cell.monitor.count = 0 from bC_mon hB hc.1 ht h8 cell q1))) (hS.put e2 e3 (hB.2.2.2.1.2.2.1 b (by rw [ht]; omega) hb)) hl
theorem c_putF {ci k N idx b : Nat} {C ref : String} {T : u_T} {ty : Nat → FieldType} {v : PV} {s1 : Sg} (hc : zCl ci C T N ty) (hk : k < N) (hf : zFl D.1 idx ref T k) (ht : zT w b = ci + 1) (hb : G.2.2.2.1 ≤ b) (hfin : (T k).2.2.2 = true) (hini : D.2.2.2.2.1 = "<init>") (hdecl : (T k).1 = D.1) (hfit : narrow (ty k) (mv v) = mv v ∧ fits (ty k) (mv v) = true) (hs : zPut w s1 ci b k v) (hd : decode D.2.1 pc = .ok (.putfield idx, 3)) (kk : JW kC (bC G A) A l D a Q mc ms s1 ce sl (pc + 3) lv st) : JW kC (bC G A) A l D a Q mc ms w ce sl pc lv (v :: pR (some b) :: st) := by
  intro p e s m below meth c H locs ls X hr hlk hn hK hB hS hl
  obtain ⟨cell, q1, q2, q3, q4⟩ := bC_obj hB hc ht hb
  have hap := va_apart (own := C) X.2.2.2.2 hc.2.2.1 ty hc.2.2.2.1 hc.2.2.2.2.1 hB.1 (ci := ci) hc.2.1
  obtain ⟨hSl, hfc, kC, hkC, hkind⟩ := hB.1.1 ci _ hc.2.1
  obtain ⟨cf, kf, fi, f, hi, hsl⟩ := hSl k hk
  have hlay := X.2.2.2.2 _ (hc.2.2.1 _ (u_in_lay hk))
  unfold u_lay at hlay
  rw [if_pos hfin] at hlay
  have hst := (u_facts hfc hkC (u_lays X.2.2.2.2 hc.2.2.1 hk) hi).1
  have hcf : m.cls = cf := by
    obtain ⟨_, _, c', _, _, _, -, -, hf', -, -, -, hown2, -⟩ := Cond.laysFinal_spec hlay
    have e1 : c' = cf := by have := hi.symm.trans hf'; simp at this; exact this.1.symm
    rw [hdecl] at hown2
    rw [← e1]; exact Option.some.inj (X.2.2.2.1.symm.trans hown2)
  have h6 := u_fits hfc hkC hkind (Or.inr hlay) hi (hc.2.2.2.1 k hk) hfit.1 hfit.2
  refine W.putFinK X.1 X.2.1 X.2.2.2.1 (X.2.2.2.2 _ hf.1) (hf.2 s _ X.2.2.2.2 _ hi) hst hcf (hn.trans hini) (by rw [q2]; exact h6) q1 q3 (by rw [hsl]; exact k2_hasslot (q4 k hk)) rfl rfl hd fun H' e1 e2 e3 => ?_
  rw [hsl] at e1 ⊢
  exact kk p e s m below meth c H' _ ls X hr hlk hn hK (bC_put hB hc ht hb hs e2 e3 ⟨_, e1, q2, q3, t_set q4 hap hk (mv v)⟩ (fun h8 c9 h9 => by cases Option.some.inj (e1.symm.trans h9); exact (show cell.monitor.owner = none ∧ cell.monitor.count = 0 from bC_mon hB hc.1 ht h8 cell q1))) (hS.put e2 e3 (hB.2.2.2.1.2.2.1 b (by rw [ht]; omega) hb)) hl
theorem c_puti {ci k N idx : Nat} {C ref : String} {T : u_T} {ty : Nat → FieldType} {r : Option Nat} {z : Int} (h : pfI G.2.2.2.1 w (ci + 1) (40 * ci + k) r z = some w1) (hc : zCl ci C T N ty) (hk : k < N) (hf : zFl D.1 idx ref T k) (hkd : fkd (40 * ci + k) = 0) (hfin : (T k).2.2.2 = false) (hfit : narrow (ty k) (mv (pI z)) = mv (pI z) ∧ fits (ty k) (mv (pI z)) = true) (hd : decode D.2.1 pc = .ok (.putfield idx, 3)) (kk : JW kC (bC G A) A l D a Q mc ms w1 ce sl (pc + 3) lv st) : JW kC (bC G A) A l D a Q mc ms w ce sl pc lv (pI z :: pR r :: st) := by
  obtain ⟨b, rfl, ⟨ht, hb⟩, rfl⟩ := pfI_s h
  exact c_put hc hk hf ht hb hfin hfit (zPutI hkd) hd kk
theorem c_putl {ci k N idx : Nat} {C ref : String} {T : u_T} {ty : Nat → FieldType} {r : Option Nat} {z : Int} (h : pfI G.2.2.2.1 w (ci + 1) (40 * ci + k) r z = some w1) (hc : zCl ci C T N ty) (hk : k < N) (hf : zFl D.1 idx ref T k) (hkd : fkd (40 * ci + k) = 1) (hfin : (T k).2.2.2 = false) (hfit : narrow (ty k) (mv (pL z)) = mv (pL z) ∧ fits (ty k) (mv (pL z)) = true) (hd : decode D.2.1 pc = .ok (.putfield idx, 3)) (kk : JW kC (bC G A) A l D a Q mc ms w1 ce sl (pc + 3) lv st) : JW kC (bC G A) A l D a Q mc ms w ce sl pc lv (pL z :: pR r :: st) := by
  obtain ⟨b, rfl, ⟨ht, hb⟩, rfl⟩ := pfI_s h
  exact c_put hc hk hf ht hb hfin hfit (zPutL hkd) hd kk
theorem c_puta {ci k N idx : Nat} {C ref : String} {T : u_T} {ty : Nat → FieldType} {r : Option Nat} {z : Option Nat} (h : pfR G.2.2.2.1 w (ci + 1) (40 * ci + k) r z = some w1) (hc : zCl ci C T N ty) (hk : k < N) (hf : zFl D.1 idx ref T k) (hkd : fkd (40 * ci + k) = 2) (hfin : (T k).2.2.2 = false) (hfit : narrow (ty k) (mv (pR z)) = mv (pR z) ∧ fits (ty k) (mv (pR z)) = true) (hd : decode D.2.1 pc = .ok (.putfield idx, 3)) (kk : JW kC (bC G A) A l D a Q mc ms w1 ce sl (pc + 3) lv st) : JW kC (bC G A) A l D a Q mc ms w ce sl pc lv (pR z :: pR r :: st) := by
  obtain ⟨b, rfl, ⟨ht, hb⟩, rfl⟩ := pfR_s h
  exact c_put hc hk hf ht hb hfin hfit (zPutR hkd) hd kk
theorem c_putiN {ci k N idx : Nat} {C ref : String} {T : u_T} {ty : Nat → FieldType} {r : Option Nat} {z : Int} (h : pfI G.2.2.2.1 w (ci + 1) (40 * ci + k) r z = some w1) (hc : zCl ci C T N ty) (hk : k < N) (hf : zFn D.1 idx T k ref) (hkd : fkd (40 * ci + k) = 0) (hfin : (T k).2.2.2 = false) (hfit : narrow (ty k) (mv (pI z)) = mv (pI z) ∧ fits (ty k) (mv (pI z)) = true) (hd : decode D.2.1 pc = .ok (.putfield idx, 3)) (kk : JW kC (bC G A) A l D a Q mc ms w1 ce sl (pc + 3) lv st) : JW kC (bC G A) A l D a Q mc ms w ce sl pc lv (pI z :: pR r :: st) := by
  obtain ⟨b, rfl, ⟨ht, hb⟩, rfl⟩ := pfI_s h
  exact c_putN hc hk hf ht hb hfin hfit (zPutI hkd) hd kk
theorem c_putlN {ci k N idx : Nat} {C ref : String} {T : u_T} {ty : Nat → FieldType} {r : Option Nat} {z : Int} (h : pfI G.2.2.2.1 w (ci + 1) (40 * ci + k) r z = some w1) (hc : zCl ci C T N ty) (hk : k < N) (hf : zFn D.1 idx T k ref) (hkd : fkd (40 * ci + k) = 1) (hfin : (T k).2.2.2 = false) (hfit : narrow (ty k) (mv (pL z)) = mv (pL z) ∧ fits (ty k) (mv (pL z)) = true) (hd : decode D.2.1 pc = .ok (.putfield idx, 3)) (kk : JW kC (bC G A) A l D a Q mc ms w1 ce sl (pc + 3) lv st) : JW kC (bC G A) A l D a Q mc ms w ce sl pc lv (pL z :: pR r :: st) := by
  obtain ⟨b, rfl, ⟨ht, hb⟩, rfl⟩ := pfI_s h
  exact c_putN hc hk hf ht hb hfin hfit (zPutL hkd) hd kk
theorem c_putaN {ci k N idx : Nat} {C ref : String} {T : u_T} {ty : Nat → FieldType} {r : Option Nat} {z : Option Nat} (h : pfR G.2.2.2.1 w (ci + 1) (40 * ci + k) r z = some w1) (hc : zCl ci C T N ty) (hk : k < N) (hf : zFn D.1 idx T k ref) (hkd : fkd (40 * ci + k) = 2) (hfin : (T k).2.2.2 = false) (hfit : narrow (ty k) (mv (pR z)) = mv (pR z) ∧ fits (ty k) (mv (pR z)) = true) (hd : decode D.2.1 pc = .ok (.putfield idx, 3)) (kk : JW kC (bC G A) A l D a Q mc ms w1 ce sl (pc + 3) lv st) : JW kC (bC G A) A l D a Q mc ms w ce sl pc lv (pR z :: pR r :: st) := by
  obtain ⟨b, rfl, ⟨ht, hb⟩, rfl⟩ := pfR_s h
  exact c_putN hc hk hf ht hb hfin hfit (zPutR hkd) hd kk
theorem c_putiF {ci k N idx : Nat} {C ref : String} {T : u_T} {ty : Nat → FieldType} {r : Option Nat} {z : Int} (h : pfI G.2.2.2.1 w (ci + 1) (40 * ci + k) r z = some w1) (hc : zCl ci C T N ty) (hk : k < N) (hf : zFl D.1 idx ref T k) (hkd : fkd (40 * ci + k) = 0) (hfin : (T k).2.2.2 = true) (hini : D.2.2.2.2.1 = "<init>") (hdecl : (T k).1 = D.1) (hfit : narrow (ty k) (mv (pI z)) = mv (pI z) ∧ fits (ty k) (mv (pI z)) = true) (hd : decode D.2.1 pc = .ok (.putfield idx, 3)) (kk : JW kC (bC G A) A l D a Q mc ms w1 ce sl (pc + 3) lv st) : JW kC (bC G A) A l D a Q mc ms w ce sl pc lv (pI z :: pR r :: st) := by
  obtain ⟨b, rfl, ⟨ht, hb⟩, rfl⟩ := pfI_s h
  exact c_putF hc hk hf ht hb hfin hini hdecl hfit (zPutI hkd) hd kk
theorem c_putlF {ci k N idx : Nat} {C ref : String} {T : u_T} {ty : Nat → FieldType} {r : Option Nat} {z : Int} (h : pfI G.2.2.2.1 w (ci + 1) (40 * ci + k) r z = some w1) (hc : zCl ci C T N ty) (hk : k < N) (hf : zFl D.1 idx ref T k) (hkd : fkd (40 * ci + k) = 1) (hfin : (T k).2.2.2 = true) (hini : D.2.2.2.2.1 = "<init>") (hdecl : (T k).1 = D.1) (hfit : narrow (ty k) (mv (pL z)) = mv (pL z) ∧ fits (ty k) (mv (pL z)) = true) (hd : decode D.2.1 pc = .ok (.putfield idx, 3)) (kk : JW kC (bC G A) A l D a Q mc ms w1 ce sl (pc + 3) lv st) : JW kC (bC G A) A l D a Q mc ms w ce sl pc lv (pL z :: pR r :: st) := by
  obtain ⟨b, rfl, ⟨ht, hb⟩, rfl⟩ := pfI_s h
  exact c_putF hc hk hf ht hb hfin hini hdecl hfit (zPutL hkd) hd kk
theorem c_putaF {ci k N idx : Nat} {C ref : String} {T : u_T} {ty : Nat → FieldType} {r : Option Nat} {z : Option Nat} (h : pfR G.2.2.2.1 w (ci + 1) (40 * ci + k) r z = some w1) (hc : zCl ci C T N ty) (hk : k < N) (hf : zFl D.1 idx ref T k) (hkd : fkd (40 * ci + k) = 2) (hfin : (T k).2.2.2 = true) (hini : D.2.2.2.2.1 = "<init>") (hdecl : (T k).1 = D.1) (hfit : narrow (ty k) (mv (pR z)) = mv (pR z) ∧ fits (ty k) (mv (pR z)) = true) (hd : decode D.2.1 pc = .ok (.putfield idx, 3)) (kk : JW kC (bC G A) A l D a Q mc ms w1 ce sl (pc + 3) lv st) : JW kC (bC G A) A l D a Q mc ms w ce sl pc lv (pR z :: pR r :: st) := by
  obtain ⟨b, rfl, ⟨ht, hb⟩, rfl⟩ := pfR_s h
  exact c_putF hc hk hf ht hb hfin hini hdecl hfit (zPutR hkd) hd kk
theorem tys_at (G : CG) {U : State} {w : Sg} {H : Heap} (hB : bC G A w U H) (t : Nat) (h1 : 1 ≤ t) (h2 : t ≤ 6) : ∃ ty, ArrOfT U (G.2.2.1 t) ty := by
  by_cases h6 : t = 6
  · subst h6; exact ⟨_, hB.2.2.2.2.1⟩
  · have h : ∃ ty, (tysL G)[t - 1]? = some (G.2.2.1 t, ty) := by
      rcases (show t = 1 ∨ t = 2 ∨ t = 3 ∨ t = 4 ∨ t = 5 by omega) with rfl | rfl | rfl | rfl | rfl <;> exact ⟨_, rfl⟩
    obtain ⟨ty, h⟩ := h
    exact ⟨ty, (hB.1.2 _ _ h).1⟩
theorem c_iald {r : Option Nat} {i v : Int} (h : alI w 1 r i = some v) (hd : decode D.2.1 pc = .ok (.iaload, 1)) (kk : JW kC (bC G A) A l D a Q mc ms w ce sl (pc + 1) lv (pI v :: st)) : JW kC (bC G A) A l D a Q mc ms w ce sl pc lv (pI i :: pR r :: st) := by
  intro p e s m below meth c H locs ls X hr hlk hn hK hB hS hl
  have h9 := kk p e s m below meth c H locs ls X hr hlk hn hK hB hS hl
  obtain ⟨b, rfl, ⟨ht, hi⟩, rfl⟩ := alI_s h
  obtain ⟨cell, g1, g2, g3, g4, g5, g6, g7, -⟩ := bC_arrR hB ht (by decide) (by decide)
  have hlt : (jI i).toNatClampNeg < zL w b := by rw [clamp_I]; omega
  refine W.iald X.1 X.2.1 g1 (arrOf_c (hB.1.2 0 (G.2.2.1 1, .int) rfl).1 g2 g4) g3 (fun q => in_I hi (q.imp id (Nat.le_trans g5))) (v := mv (pI (zA w b (w32 i).toNat))) (by rw [g7 _ hlt, clamp_I]; rfl) rfl rfl hd h9
theorem c_bald {r : Option Nat} {i v : Int} (h : alI w 2 r i = some v) (hd : decode D.2.1 pc = .ok (.baload, 1)) (kk : JW kC (bC G A) A l D a Q mc ms w ce sl (pc + 1) lv (pI v :: st)) : JW kC (bC G A) A l D a Q mc ms w ce sl pc lv (pI i :: pR r :: st) := by
  intro p e s m below meth c H locs ls X hr hlk hn hK hB hS hl
  have h9 := kk p e s m below meth c H locs ls X hr hlk hn hK hB hS hl
  obtain ⟨b, rfl, ⟨ht, hi⟩, rfl⟩ := alI_s h
  obtain ⟨cell, g1, g2, g3, g4, g5, g6, g7, -⟩ := bC_arrR hB ht (by decide) (by decide)
  have hlt : (jI i).toNatClampNeg < zL w b := by rw [clamp_I]; omega
  refine W.bald X.1 X.2.1 g1 (arrOf_c (hB.1.2 1 (G.2.2.1 2, .byte) rfl).1 g2 g4) g3 (fun q => in_I hi (q.imp id (Nat.le_trans g5))) (v := mv (pI (zA w b (w32 i).toNat))) (by rw [g7 _ hlt, clamp_I]; rfl) rfl rfl hd h9
theorem c_zald {r : Option Nat} {i v : Int} (h : alI w 3 r i = some v) (hd : decode D.2.1 pc = .ok (.baload, 1)) (kk : JW kC (bC G A) A l D a Q mc ms w ce sl (pc + 1) lv (pI v :: st)) : JW kC (bC G A) A l D a Q mc ms w ce sl pc lv (pI i :: pR r :: st) := by
  intro p e s m below meth c H locs ls X hr hlk hn hK hB hS hl
  have h9 := kk p e s m below meth c H locs ls X hr hlk hn hK hB hS hl
  obtain ⟨b, rfl, ⟨ht, hi⟩, rfl⟩ := alI_s h
  obtain ⟨cell, g1, g2, g3, g4, g5, g6, g7, -⟩ := bC_arrR hB ht (by decide) (by decide)
  have hlt : (jI i).toNatClampNeg < zL w b := by rw [clamp_I]; omega
  refine W.zald X.1 X.2.1 g1 (arrOf_c (hB.1.2 2 (G.2.2.1 3, .boolean) rfl).1 g2 g4) g3 (fun q => in_I hi (q.imp id (Nat.le_trans g5))) (v := mv (pI (zA w b (w32 i).toNat))) (by rw [g7 _ hlt, clamp_I]; rfl) rfl rfl hd h9
theorem c_lald {r : Option Nat} {i v : Int} (h : alI w 4 r i = some v) (hd : decode D.2.1 pc = .ok (.laload, 1)) (kk : JW kC (bC G A) A l D a Q mc ms w ce sl (pc + 1) lv (pL v :: st)) : JW kC (bC G A) A l D a Q mc ms w ce sl pc lv (pI i :: pR r :: st) := by
  intro p e s m below meth c H locs ls X hr hlk hn hK hB hS hl
  have h9 := kk p e s m below meth c H locs ls X hr hlk hn hK hB hS hl
  obtain ⟨b, rfl, ⟨ht, hi⟩, rfl⟩ := alI_s h
  obtain ⟨cell, g1, g2, g3, g4, g5, g6, g7, -⟩ := bC_arrR hB ht (by decide) (by decide)
  have hlt : (jI i).toNatClampNeg < zL w b := by rw [clamp_I]; omega
  refine W.lald X.1 X.2.1 g1 (arrOf_c (hB.1.2 3 (G.2.2.1 4, .long) rfl).1 g2 g4) g3 (fun q => in_I hi (q.imp id (Nat.le_trans g5))) (v := mv (pL (zA w b (w32 i).toNat))) (by rw [g7 _ hlt, clamp_I]; rfl) rfl rfl hd h9
theorem c_aald5 {r : Option Nat} {i : Int} {v : Option Nat} (h : alR w 5 r i = some v) (hd : decode D.2.1 pc = .ok (.aaload, 1)) (kk : JW kC (bC G A) A l D a Q mc ms w ce sl (pc + 1) lv (pR v :: st)) : JW kC (bC G A) A l D a Q mc ms w ce sl pc lv (pI i :: pR r :: st) := by
  intro p e s m below meth c H locs ls X hr hlk hn hK hB hS hl
  have h9 := kk p e s m below meth c H locs ls X hr hlk hn hK hB hS hl
  obtain ⟨b, rfl, ⟨ht, hi⟩, rfl⟩ := alR_s h
  obtain ⟨cell, g1, g2, g3, g4, g5, g6, g7, -⟩ := bC_arrR hB ht (by decide) (by decide)
  have hlt : (jI i).toNatClampNeg < zL w b := by rw [clamp_I]; omega
  refine W.aald (ty := (.object "java/lang/Object")) X.1 X.2.1 g1 (arrOf_c (hB.1.2 4 (G.2.2.1 5, (.object "java/lang/Object")) rfl).1 g2 g4) rfl g3 (fun q => in_I hi (q.imp id (Nat.le_trans g5))) (v := mv (pR (zB w b (w32 i).toNat))) (by rw [g7 _ hlt, clamp_I]; rfl) rfl rfl hd h9
theorem c_aald6 {r : Option Nat} {i : Int} {v : Option Nat} (h : alR w 6 r i = some v) (hd : decode D.2.1 pc = .ok (.aaload, 1)) (kk : JW kC (bC G A) A l D a Q mc ms w ce sl (pc + 1) lv (pR v :: st)) : JW kC (bC G A) A l D a Q mc ms w ce sl pc lv (pI i :: pR r :: st) := by
  intro p e s m below meth c H locs ls X hr hlk hn hK hB hS hl
  have h9 := kk p e s m below meth c H locs ls X hr hlk hn hK hB hS hl
  obtain ⟨b, rfl, ⟨ht, hi⟩, rfl⟩ := alR_s h
  obtain ⟨cell, g1, g2, g3, g4, g5, g6, g7, -⟩ := bC_arrR hB ht (by decide) (by decide)
  have hlt : (jI i).toNatClampNeg < zL w b := by rw [clamp_I]; omega
  refine W.aald (ty := (.object "java/lang/Long")) X.1 X.2.1 g1 (arrOf_c hB.2.2.2.2.1 g2 g4) rfl g3 (fun q => in_I hi (q.imp id (Nat.le_trans g5))) (v := mv (pR (zB w b (w32 i).toNat))) (by rw [g7 _ hlt, clamp_I]; rfl) rfl rfl hd h9
theorem c_alen {r : Option Nat} {v : Int} (t : Nat) (h1 : 1 ≤ t) (h2 : t ≤ 6) (h : alen w t r = some v) (hd : decode D.2.1 pc = .ok (.arraylength, 1)) (kk : JW kC (bC G A) A l D a Q mc ms w ce sl (pc + 1) lv (pI v :: st)) : JW kC (bC G A) A l D a Q mc ms w ce sl pc lv (pR r :: st) := by
  intro p e s m below meth c H locs ls X hr hlk hn hK hB hS hl
  have h9 := kk p e s m below meth c H locs ls X hr hlk hn hK hB hS hl
  obtain ⟨b, rfl, ht, rfl⟩ := alen_s h
  obtain ⟨cell, g1, g2, g3, g4, g5, g6, g7, -⟩ := bC_arrR hB ht h1 h2
  obtain ⟨ty, hAr⟩ := tys_at G hB t h1 h2
  exact W.alen X.1 X.2.1 g1 (arrOf_c hAr g2 g4) (n := jI (zL w b)) (by rw [g6]; rfl) rfl rfl hd h9
theorem bC_ast {U : State} {H H1 : Heap} {b t j : Nat} {v : Int} (hB : bC G A w U H) (ht : zT w b = 100 + t) (h1 : 1 ≤ t) (h2 : t ≤ 4) (hb : G.2.2.2.1 ≤ b) (hz : H1.size = H.size) (oq : ∀ q : Nat, q ≠ b → H1[q]? = H[q]?) (he : H1[b]? = some (arrV (G.2.2.1 t) (zL w b) (eV (zsA w b j v) t b))) : bC G A (zsA w b j v) U H1 := by
  refine bC_write hB (by rw [ht]; omega) hb hz oq ⟨fun cj h3 h4 => ?_, fun t' h3 h4 h5 => ?_⟩ rfl (fun q hq => ⟨rfl, rfl, rfl, up2_ne hq, rfl⟩) rfl
  · have h3 : zT w b = cj + 1 := h3
    have := h4.1
    omega
  · have h3 : zT w b = 100 + t' := h3
    have : t' = t := by omega
    subst this
    exact aOb.of he
theorem bC_asr {U : State} {H H1 : Heap} {b t j : Nat} {v : Option Nat} (hB : bC G A w U H) (ht : zT w b = 100 + t) (h1 : 5 ≤ t) (h2 : t ≤ 6) (hb : G.2.2.2.1 ≤ b) (hz : H1.size = H.size) (oq : ∀ q : Nat, q ≠ b → H1[q]? = H[q]?) (he : H1[b]? = some (arrV (G.2.2.1 t) (zL w b) (eV (zsB w b j v) t b))) : bC G A (zsB w b j v) U H1 := by
  refine bC_write hB (by rw [ht]; omega) hb hz oq ⟨fun cj h3 h4 => ?_, fun t' h3 h4 h5 => ?_⟩ rfl (fun q hq => ⟨rfl, rfl, rfl, rfl, up2_ne hq⟩) rfl
  · have h3 : zT w b = cj + 1 := h3
    have := h4.1
    omega
  · have h3 : zT w b = 100 + t' := h3
    have : t' = t := by omega
    subst this
    exact aOb.of he
theorem c_iast {r : Option Nat} {i v : Int} (h : asI G.2.2.2.1 w 1 r i v = some w1) (hd : decode D.2.1 pc = .ok (.iastore, 1)) (kk : JW kC (bC G A) A l D a Q mc ms w1 ce sl (pc + 1) lv st) : JW kC (bC G A) A l D a Q mc ms w ce sl pc lv (pI v :: pI i :: pR r :: st) := by
  intro p e s m below meth c H locs ls X hr hlk hn hK hB hS hl
  obtain ⟨b, rfl, ⟨⟨ht, hb⟩, hi⟩, rfl⟩ := asI_s h
  have hc := bC_arr hB ht (by decide) (by decide) hb
  refine W.iast X.1 X.2.1 hc ((hB.1.2 0 (G.2.2.1 1, .int) rfl).1 _ _) (fun q => by cases q) (by show ¬ (jI i < 0 ∨ (arrV _ _ _).slots.size ≤ _); rw [arrV_size]; exact in_I hi) rfl rfl hd fun H1 e9 z9 oq => ?_
  refine kk p e s m below meth c H1 _ ls X hr hlk hn hK (bC_ast hB ht (by decide) (by decide) hb z9 oq ?_) (hS.put z9 oq (hB.2.2.2.1.2.2.1 b (by rw [ht]; omega) hb)) hl
  rw [e9, arrV_store]
  congr 2
  funext q
  unfold updV
  rw [clamp_I]
  by_cases hq : q = (w32 i).toNat
  · subst hq
    rw [if_pos rfl]
    show _ = Value.int (jI (up2 (zA w) b (w32 i).toNat v b (w32 i).toNat))
    rw [up2_at]
    try rfl
  · rw [if_neg hq]
    show _ = Value.int (jI (up2 (zA w) b (w32 i).toNat v b q))
    rw [up2_k hq]
    rfl
theorem c_bast {r : Option Nat} {i v : Int} (h : asI G.2.2.2.1 w 2 r i (w8 v) = some w1) (hd : decode D.2.1 pc = .ok (.bastore, 1)) (kk : JW kC (bC G A) A l D a Q mc ms w1 ce sl (pc + 1) lv st) : JW kC (bC G A) A l D a Q mc ms w ce sl pc lv (pI v :: pI i :: pR r :: st) := by
  intro p e s m below meth c H locs ls X hr hlk hn hK hB hS hl
  obtain ⟨b, rfl, ⟨⟨ht, hb⟩, hi⟩, rfl⟩ := asI_s h
  have hc := bC_arr hB ht (by decide) (by decide) hb
  refine W.bast X.1 X.2.1 hc ((hB.1.2 1 (G.2.2.1 2, .byte) rfl).1 _ _) (fun q => by cases q) (by show ¬ (jI i < 0 ∨ (arrV _ _ _).slots.size ≤ _); rw [arrV_size]; exact in_I hi) rfl rfl hd fun H1 e9 z9 oq => ?_
  refine kk p e s m below meth c H1 _ ls X hr hlk hn hK (bC_ast hB ht (by decide) (by decide) hb z9 oq ?_) (hS.put z9 oq (hB.2.2.2.1.2.2.1 b (by rw [ht]; omega) hb)) hl
  rw [e9, arrV_store]
  congr 2
  funext q
  unfold updV
  rw [clamp_I]
  by_cases hq : q = (w32 i).toNat
  · subst hq
    rw [if_pos rfl]
    show _ = Value.int (jI (up2 (zA w) b (w32 i).toNat (w8 v) b (w32 i).toNat))
    rw [up2_at]
    exact congrArg Value.int (I_i2b v)
  · rw [if_neg hq]
    show _ = Value.int (jI (up2 (zA w) b (w32 i).toNat (w8 v) b q))
    rw [up2_k hq]
    rfl
theorem c_zast {r : Option Nat} {i v : Int} (h : asI G.2.2.2.1 w 3 r i (nz v) = some w1) (hd : decode D.2.1 pc = .ok (.bastore, 1)) (kk : JW kC (bC G A) A l D a Q mc ms w1 ce sl (pc + 1) lv st) : JW kC (bC G A) A l D a Q mc ms w ce sl pc lv (pI v :: pI i :: pR r :: st) := by
  intro p e s m below meth c H locs ls X hr hlk hn hK hB hS hl
  obtain ⟨b, rfl, ⟨⟨ht, hb⟩, hi⟩, rfl⟩ := asI_s h
  have hc := bC_arr hB ht (by decide) (by decide) hb
  refine W.zast X.1 X.2.1 hc ((hB.1.2 2 (G.2.2.1 3, .boolean) rfl).1 _ _) (fun q => by cases q) (by show ¬ (jI i < 0 ∨ (arrV _ _ _).slots.size ≤ _); rw [arrV_size]; exact in_I hi) rfl rfl hd fun H1 e9 z9 oq => ?_
  refine kk p e s m below meth c H1 _ ls X hr hlk hn hK (bC_ast hB ht (by decide) (by decide) hb z9 oq ?_) (hS.put z9 oq (hB.2.2.2.1.2.2.1 b (by rw [ht]; omega) hb)) hl
  rw [e9, arrV_store]
  congr 2
  funext q
  unfold updV
  rw [clamp_I]
  by_cases hq : q = (w32 i).toNat
  · subst hq
    rw [if_pos rfl]
    show _ = Value.int (jI (up2 (zA w) b (w32 i).toNat (nz v) b (w32 i).toNat))
    rw [up2_at]
    exact congrArg Value.int (Int32.ofInt_toInt _).symm
  · rw [if_neg hq]
    show _ = Value.int (jI (up2 (zA w) b (w32 i).toNat (nz v) b q))
    rw [up2_k hq]
    rfl
theorem c_last {r : Option Nat} {i v : Int} (h : asI G.2.2.2.1 w 4 r i v = some w1) (hd : decode D.2.1 pc = .ok (.lastore, 1)) (kk : JW kC (bC G A) A l D a Q mc ms w1 ce sl (pc + 1) lv st) : JW kC (bC G A) A l D a Q mc ms w ce sl pc lv (pL v :: pI i :: pR r :: st) := by
  intro p e s m below meth c H locs ls X hr hlk hn hK hB hS hl
  obtain ⟨b, rfl, ⟨⟨ht, hb⟩, hi⟩, rfl⟩ := asI_s h
  have hc := bC_arr hB ht (by decide) (by decide) hb
  refine W.last X.1 X.2.1 hc ((hB.1.2 3 (G.2.2.1 4, .long) rfl).1 _ _) (fun q => by cases q) (by show ¬ (jI i < 0 ∨ (arrV _ _ _).slots.size ≤ _); rw [arrV_size]; exact in_I hi) rfl rfl hd fun H1 e9 z9 oq => ?_
  refine kk p e s m below meth c H1 _ ls X hr hlk hn hK (bC_ast hB ht (by decide) (by decide) hb z9 oq ?_) (hS.put z9 oq (hB.2.2.2.1.2.2.1 b (by rw [ht]; omega) hb)) hl
  rw [e9, arrV_store]
  congr 2
  funext q
  unfold updV
  rw [clamp_I]
  by_cases hq : q = (w32 i).toNat
  · subst hq
    rw [if_pos rfl]
    show _ = Value.long (jL (up2 (zA w) b (w32 i).toNat v b (w32 i).toNat))
    rw [up2_at]
    try rfl
  · rw [if_neg hq]
    show _ = Value.long (jL (up2 (zA w) b (w32 i).toNat v b q))
    rw [up2_k hq]
    rfl
theorem c_gets {idx : Nat} (k : Nat) {q : String × String × String} (hq : stL[k]? = some q) (hf : Cond.fieldLink D.1 idx q.1 q.2.1 q.2.2 ∈ lw_all) (hd : decode D.2.1 pc = .ok (.getstatic idx, 3)) (kk : JW kC (bC G A) A l D a Q mc ms w ce sl (pc + 3) lv (pR (G.2.2.2.2 k) :: st)) : JW kC (bC G A) A l D a Q mc ms w ce sl pc lv st := by
  intro p e s m below meth c H locs ls X hr hlk hn hK hB hS hl
  have h9 := kk p e s m below meth c H locs ls X hr hlk hn hK hB hS hl
  obtain ⟨cf, kf, fi, f, a9, cell, h1, h2, h3, h4, h5, h6, h7, h8⟩ := (hB.2.1 k q hq).1
  exact W.gets X.1 X.2.1 X.2.2.2.1 (X.2.2.2.2 _ hf) h1 h2 h3 h4 h5 (fun e => by rw [e] at h6; cases h6) h7 rfl hd h9
/-- which tags pass a cast to nm -/
def zOk (nm : String) (ts : List Nat) : Prop := ∀ t ∈ ts, ∃ (ci N : Nat) (C : String) (T : u_T) (ty : Nat → FieldType), t = ci + 1 ∧ zCl ci C T N ty ∧ (C = nm ∨ Cond.castable C nm ∈ lw_tbl)
theorem c_recv {ci N b : Nat} {C : String} {T : u_T} {ty : Nat → FieldType} (hc : zCl ci C T N ty) (ht : zT w b = ci + 1) : jrecv (bC G A) w b C := by
  intro s H hB
  obtain ⟨cell, q1, q2, -, q3, -⟩ := bC_objR hB hc ht
  exact ⟨cell, q1, q3, by rw [q2]; exact (hB.1.1 ci _ hc.2.1).2.1⟩
theorem c_cast {idx : Nat} {nm : String} {ts : List Nat} {r : Option Nat} {u9 : Unit} (h : zcast w ts r = some u9) (hts : zOk nm ts) (hf : Cond.classLink D.1 idx nm ∈ lw_all) (hd : decode D.2.1 pc = .ok (.checkcast idx, 3)) (kk : JW kC (bC G A) A l D a Q mc ms w ce sl (pc + 3) lv (pR r :: st)) : JW kC (bC G A) A l D a Q mc ms w ce sl pc lv (pR r :: st) := by
  intro p e s m below meth c H locs ls X hr hlk hn hK hB hS hl
  have h9 := kk p e s m below meth c H locs ls X hr hlk hn hK hB hS hl
  cases r with
  | none => exact lv_castN X.1 X.2.1 hd h9
  | some b =>
    unfold zcast at h
    by_cases hb : zT w b ∈ ts
    · obtain ⟨ci, N, C, T, ty, e1, hc, e2⟩ := hts _ hb
      rcases e2 with rfl | e2
      · have hKn := hB.1.1 ci _ hc.2.1
        obtain ⟨cell, g1, g2, -, g3, -⟩ := bC_objR hB hc e1
        exact va_castS X.1 X.2.1 X.2.2.2.1 (X.2.2.2.2 _ hf) hKn.2 ⟨cell, g1, g3, by rw [g2]; exact hKn.2.1⟩ hd h9
      · exact va_castY X.1 X.2.1 X.2.2.2.1 (X.2.2.2.2 _ hf) (hK.1 _ e2 rfl) (c_recv hc e1 s H hB) hd h9
    · have h : (if zT w b ∈ ts then some () else none) = some u9 := h
      rw [if_neg hb] at h; cases h
end CPut
