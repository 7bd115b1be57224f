/-! the host: personAs, takenAs, taken -/
set_option maxRecDepth 100000
def TKs (δ : Nat → ClassId) (dy : va_W) (v : Value) (a : Nat) (r : Int32 ⊕ Nat) : Prop :=
  (a < 6 ∧ ((v = .null ∧ r = .inr 1) ∨ (∃ q k N f, v = .ref q ∧ k < 5 ∧ (q, shE δ k N f) ∈ dy ∧ r = .inr 0) ∨ (∃ q kd x y, v = .ref q ∧ 1 ≤ kd ∧ kd ≤ 5 ∧ (q, (.inr (6 + kd, [.int x, .int y]) : va_E)) ∈ dy ∧ r = if unK kd a = true then .inl x else .inr 0))) ∨ (∃ k r0, k < 5 ∧ a = 10 + k ∧ RVs δ dy v k r0 ∧ r = Sum.map (fun N => nI N) id r0)
section KHF
variable {p : Program} {l : Launch} {e0 : Env} {R : Room} {s : State} {m : MethodId} {args : Array Value} {below : List Frame} {meth : Method} {c : Code} {Q : State → Prop} {D : va_G} {A : Nat → Prop} {nL ce sl : Nat} {g : St} {pc : Nat} {lv : List (Nat × Value)} {st : List Value} {cc : ByteArray} {own : String} {K : Nat → Nat} {δ : Nat → ClassId} {sr ρ : Rf} {dy d1 d2 : va_W} {aK aV : Nat → Nat}
theorem dC_number {b kd : Nat} {x y : Int32} (h1 : 1 ≤ kd) (h5 : kd ≤ 5) (hm : (b, (.inr (6 + kd, [.int x, .int y]) : va_E)) ∈ dy) : Ct l yX7_number cX7_number 1 (some .int) 0 0 D vwCl (kT δ) A (kW K δ sr ρ dy) [.ref b] g (QI D vwCl A (kW K δ sr ρ dy) x g) := by
  refine ct_intro (own := RX7) (lv0 := [(0, .ref b)]) (by decide) rfl (Nat.le_of_ble_eq_true rfl) rfl ?_
  intro p e s m args below meth c X hr
  refine tw_aload_n X dX7_number_0 rfl 0 rfl ?_
  match kd, h1, h5, hm with
  | 1, _, _, hm =>
    refine tw_getD X hm in_X8 rfl 0 (by decide) q524 rfl rfl dX7_number_1 ?_
    exact tw_iret X hr rfl rfl dX7_number_4
  | 2, _, _, hm =>
    refine tw_getD X hm in_X9 rfl 0 (by decide) q524 rfl rfl dX7_number_1 ?_
    exact tw_iret X hr rfl rfl dX7_number_4
  | 3, _, _, hm =>
    refine tw_getD X hm in_X10 rfl 0 (by decide) q524 rfl rfl dX7_number_1 ?_
    exact tw_iret X hr rfl rfl dX7_number_4
  | 4, _, _, hm =>
    refine tw_getD X hm in_X11 rfl 0 (by decide) q524 rfl rfl dX7_number_1 ?_
    exact tw_iret X hr rfl rfl dX7_number_4
  | 5, _, _, hm =>
    refine tw_getD X hm in_X12 rfl 0 (by decide) q524 rfl rfl dX7_number_1 ?_
    exact tw_iret X hr rfl rfl dX7_number_4
theorem dC_needs {b kd : Nat} {x y : Int32} (h1 : 1 ≤ kd) (h5 : kd ≤ 5) (hm : (b, (.inr (6 + kd, [.int x, .int y]) : va_E)) ∈ dy) : Ct l yX7_needs cX7_needs 1 (some .int) 0 0 D vwCl (kT δ) A (kW K δ sr ρ dy) [.ref b] g (QI D vwCl A (kW K δ sr ρ dy) y g) := by
  refine ct_intro (own := RX7) (lv0 := [(0, .ref b)]) (by decide) rfl (Nat.le_of_ble_eq_true rfl) rfl ?_
  intro p e s m args below meth c X hr
  refine tw_aload_n X dX7_needs_0 rfl 0 rfl ?_
  match kd, h1, h5, hm with
  | 1, _, _, hm =>
    refine tw_getD X hm in_X8 rfl 1 (by decide) q525 rfl rfl dX7_needs_1 ?_
    exact tw_iret X hr rfl rfl dX7_needs_4
  | 2, _, _, hm =>
    refine tw_getD X hm in_X9 rfl 1 (by decide) q525 rfl rfl dX7_needs_1 ?_
    exact tw_iret X hr rfl rfl dX7_needs_4
  | 3, _, _, hm =>
    refine tw_getD X hm in_X10 rfl 1 (by decide) q525 rfl rfl dX7_needs_1 ?_
    exact tw_iret X hr rfl rfl dX7_needs_4
  | 4, _, _, hm =>
    refine tw_getD X hm in_X11 rfl 1 (by decide) q525 rfl rfl dX7_needs_1 ?_
    exact tw_iret X hr rfl rfl dX7_needs_4
  | 5, _, _, hm =>
    refine tw_getD X hm in_X12 rfl 1 (by decide) q525 rfl rfl dX7_needs_1 ?_
    exact tw_iret X hr rfl rfl dX7_needs_4
theorem nu_d : "HadForVoice$Person" ≠ "java/lang/invoke/MethodHandle" ∧ "HadForVoice$Person" ≠ "java/lang/invoke/VarHandle" ∧ (parseMethodDescriptor "()I").map (fun d => d.parameters.length) = some 0 := by decide +kernel
/-- number() of one of the people -/
theorem tr_number (X : Cx p c cc nL s args RX0 m meth D vwCl (kT δ) A) {b kd : Nat} {x y : Int32} (h1 : 1 ≤ kd) (h5 : kd ≤ 5) (hm : (b, (.inr (6 + kd, [.int x, .int y]) : va_E)) ∈ dy) (hR : 1 ≤ R.frames ∧ 20 ≤ R.locals) (hc : ce ≤ R.cells ∧ sl ≤ R.slots) (hW : (st.map fun v => v.category).sum ≤ 8) (hdg : decode cc pc = .ok (.invokevirtual 570, 3)) (kk : TW p l e0 R s m args below meth c Q D vwCl A (kW K δ sr ρ dy) nL ce sl g (pc + 3) lv (.int x :: st)) : TW p l e0 R s m args below meth c Q D vwCl A (kW K δ sr ρ dy) nL ce sl g pc lv (.ref b :: st) := by
  obtain ⟨q0, he⟩ := kW_dy (K := K) (sr := sr) (ρ := ρ) (δ := δ) (g := g) hm
  match kd, h1, h5, hm, he with
  | 1, _, _, hm, he => exact tw_callUi (As := []) (st := st) X (dC_number (by decide) (by decide) hm) (va_cwU 0 X.hts (lw_U q1309 q1311 q1313 q1310 q126 q1317) rfl rfl rfl rfl nu_d ⟨by show 0 + 1 ≤ _; omega, by show 8 + (1 + 11) + 0 ≤ _; omega⟩) hc q0 he rfl rfl rfl hW hdg kk
  | 2, _, _, hm, he => exact tw_callUi (As := []) (st := st) X (dC_number (by decide) (by decide) hm) (va_cwU 0 X.hts (lw_U q1309 q1311 q1314 q1310 q126 q1317) rfl rfl rfl rfl nu_d ⟨by show 0 + 1 ≤ _; omega, by show 8 + (1 + 11) + 0 ≤ _; omega⟩) hc q0 he rfl rfl rfl hW hdg kk
  | 3, _, _, hm, he => exact tw_callUi (As := []) (st := st) X (dC_number (by decide) (by decide) hm) (va_cwU 0 X.hts (lw_U q1309 q1311 q1316 q1310 q126 q1317) rfl rfl rfl rfl nu_d ⟨by show 0 + 1 ≤ _; omega, by show 8 + (1 + 11) + 0 ≤ _; omega⟩) hc q0 he rfl rfl rfl hW hdg kk
  | 4, _, _, hm, he => exact tw_callUi (As := []) (st := st) X (dC_number (by decide) (by decide) hm) (va_cwU 0 X.hts (lw_U q1309 q1311 q1315 q1310 q126 q1317) rfl rfl rfl rfl nu_d ⟨by show 0 + 1 ≤ _; omega, by show 8 + (1 + 11) + 0 ≤ _; omega⟩) hc q0 he rfl rfl rfl hW hdg kk
  | 5, _, _, hm, he => exact tw_callUi (As := []) (st := st) X (dC_number (by decide) (by decide) hm) (va_cwU 0 X.hts (lw_U q1309 q1311 q1312 q1310 q126 q1317) rfl rfl rfl rfl nu_d ⟨by show 0 + 1 ≤ _; omega, by show 8 + (1 + 11) + 0 ≤ _; omega⟩) hc q0 he rfl rfl rfl hW hdg kk
theorem kx_pasN' {a : Nat} (ha : a < 6) : CX l yX0_personAs cX0_personAs 2 (some (.object "HadForVoice$Person")) 8 10260 0 0 D vwCl (kT δ) A aK aV (kW K δ sr ρ dy) [.null, .int (nI a)] g (fun w t => w = some .null ∧ BW D vwCl A (kW K δ sr ρ dy) g t) (fun _ _ _ => False) := by
  refine cx_intro (own := RX0) (lv0 := [(0, .null), (1, .int (nI a))]) (by decide) rfl (Nat.le_of_ble_eq_true rfl) rfl ?_
  intro p e s m args below meth c Y hr hmn htab
  have X := Y.x
  refine tw_iload_n X dX0_personAs_0 rfl 1 rfl ?_
  match a, ha with
  | 0, _ =>
    refine tw_tableIn (off := 35) (tgt := 36) X dX0_personAs_1 (v := nI 0) rfl (by decide) (by decide) rfl rfl ?_
    refine tw_aload_nN X dX0_personAs_36 rfl 0 rfl ?_
    refine tr_castNull X dX0_personAs_37 ?_
    exact tx_aret X hr (Or.inl ⟨_, rfl⟩) (Or.inl rfl) (Nat.zero_le _) (Nat.zero_le _) (fun t b => ⟨rfl, b⟩) dX0_personAs_40
  | 1, _ =>
    refine tw_tableIn (off := 40) (tgt := 41) X dX0_personAs_1 (v := nI 1) rfl (by decide) (by decide) rfl rfl ?_
    refine tw_aload_nN X dX0_personAs_41 rfl 0 rfl ?_
    refine tr_castNull X dX0_personAs_42 ?_
    exact tx_aret X hr (Or.inl ⟨_, rfl⟩) (Or.inl rfl) (Nat.zero_le _) (Nat.zero_le _) (fun t b => ⟨rfl, b⟩) dX0_personAs_45
  | 2, _ =>
    refine tw_tableIn (off := 45) (tgt := 46) X dX0_personAs_1 (v := nI 2) rfl (by decide) (by decide) rfl rfl ?_
    refine tw_aload_nN X dX0_personAs_46 rfl 0 rfl ?_
    refine tr_castNull X dX0_personAs_47 ?_
    exact tx_aret X hr (Or.inl ⟨_, rfl⟩) (Or.inl rfl) (Nat.zero_le _) (Nat.zero_le _) (fun t b => ⟨rfl, b⟩) dX0_personAs_50
  | 3, _ =>
    refine tw_tableIn (off := 50) (tgt := 51) X dX0_personAs_1 (v := nI 3) rfl (by decide) (by decide) rfl rfl ?_
    refine tw_aload_nN X dX0_personAs_51 rfl 0 rfl ?_
    refine tr_castNull X dX0_personAs_52 ?_
    exact tx_aret X hr (Or.inl ⟨_, rfl⟩) (Or.inl rfl) (Nat.zero_le _) (Nat.zero_le _) (fun t b => ⟨rfl, b⟩) dX0_personAs_55
  | 4, _ =>
    refine tw_tableIn (off := 55) (tgt := 56) X dX0_personAs_1 (v := nI 4) rfl (by decide) (by decide) rfl rfl ?_
    refine tw_aload_nN X dX0_personAs_56 rfl 0 rfl ?_
    refine tr_castNull X dX0_personAs_57 ?_
    exact tx_aret X hr (Or.inl ⟨_, rfl⟩) (Or.inl rfl) (Nat.zero_le _) (Nat.zero_le _) (fun t b => ⟨rfl, b⟩) dX0_personAs_60
  | 5, _ =>
    refine tw_tableOut (tgt := 61) X dX0_personAs_1 (Or.inr (by decide)) rfl ?_
    refine tw_aload_nN X dX0_personAs_61 rfl 0 rfl ?_
    refine tr_castNull X dX0_personAs_62 ?_
    exact tx_aret X hr (Or.inl ⟨_, rfl⟩) (Or.inl rfl) (Nat.zero_le _) (Nat.zero_le _) (fun t b => ⟨rfl, b⟩) dX0_personAs_65
theorem kx_pasX (hl : l.stackTraces = false) {a q : Nat} {C : String} (ha : a < 6) (hnc : (C, asN a) ∈ ncL) (hp : packageOf C = "" ∧ C.toList.length ≤ 20) (hr0 : ∀ (s : State), va_K D vwCl (kT δ) s → ∀ H : Heap, va_P D vwCl (kW K δ sr ρ dy g) H → ∃ cell : Cell, H[q]? = some cell ∧ cell.vm.isStatics = false ∧ s.vm.findClass C = some cell.cls) : CX l yX0_personAs cX0_personAs 2 (some (.object "HadForVoice$Person")) 8 10260 3 1010 D vwCl (kT δ) A aK aV (kW K δ sr ρ dy) [.ref q, .int (nI a)] g (fun _ _ => False) (HX D A K δ sr ρ dy g 0 0) := by
  refine cx_intro (own := RX0) (lv0 := [(0, .ref q), (1, .int (nI a))]) (by decide) rfl (Nat.le_of_ble_eq_true rfl) rfl ?_
  intro p e s m args below meth c Y hr hmn htab
  have X := Y.x
  refine tw_iload_n X dX0_personAs_0 rfl 1 rfl ?_
  match a, ha, hnc with
  | 0, ha, hnc =>
    refine tw_tableIn (off := 35) (tgt := 36) X dX0_personAs_1 (v := nI 0) rfl (by decide) (by decide) rfl rfl ?_
    refine tw_aload_n X dX0_personAs_36 rfl 0 rfl ?_
    exact tx_castN (C := C) (nm := asN 0) Y hl q350 hnc ⟨hp.1, (pk_as 0 ha).1, hp.2, (pk_as 0 ha).2⟩ (hr0 s X.hK) ⟨Nat.le_of_ble_eq_true rfl, Nat.le_of_ble_eq_true rfl⟩ ⟨Nat.le_of_ble_eq_true rfl, Nat.le_of_ble_eq_true rfl⟩ (Nat.zero_le _) dX0_personAs_37 (fun t q b => tx_out X htab (Nat.le_refl _) (Nat.le_refl _) (fun t2 e2 => Or.inl ⟨rfl, rfl, by rw [e2]; exact b.1, b.2⟩))
  | 1, ha, hnc =>
    refine tw_tableIn (off := 40) (tgt := 41) X dX0_personAs_1 (v := nI 1) rfl (by decide) (by decide) rfl rfl ?_
    refine tw_aload_n X dX0_personAs_41 rfl 0 rfl ?_
    exact tx_castN (C := C) (nm := asN 1) Y hl q515 hnc ⟨hp.1, (pk_as 1 ha).1, hp.2, (pk_as 1 ha).2⟩ (hr0 s X.hK) ⟨Nat.le_of_ble_eq_true rfl, Nat.le_of_ble_eq_true rfl⟩ ⟨Nat.le_of_ble_eq_true rfl, Nat.le_of_ble_eq_true rfl⟩ (Nat.zero_le _) dX0_personAs_42 (fun t q b => tx_out X htab (Nat.le_refl _) (Nat.le_refl _) (fun t2 e2 => Or.inl ⟨rfl, rfl, by rw [e2]; exact b.1, b.2⟩))
  | 2, ha, hnc =>
    refine tw_tableIn (off := 45) (tgt := 46) X dX0_personAs_1 (v := nI 2) rfl (by decide) (by decide) rfl rfl ?_
    refine tw_aload_n X dX0_personAs_46 rfl 0 rfl ?_
    exact tx_castN (C := C) (nm := asN 2) Y hl q531 hnc ⟨hp.1, (pk_as 2 ha).1, hp.2, (pk_as 2 ha).2⟩ (hr0 s X.hK) ⟨Nat.le_of_ble_eq_true rfl, Nat.le_of_ble_eq_true rfl⟩ ⟨Nat.le_of_ble_eq_true rfl, Nat.le_of_ble_eq_true rfl⟩ (Nat.zero_le _) dX0_personAs_47 (fun t q b => tx_out X htab (Nat.le_refl _) (Nat.le_refl _) (fun t2 e2 => Or.inl ⟨rfl, rfl, by rw [e2]; exact b.1, b.2⟩))
  | 3, ha, hnc =>
    refine tw_tableIn (off := 50) (tgt := 51) X dX0_personAs_1 (v := nI 3) rfl (by decide) (by decide) rfl rfl ?_
    refine tw_aload_n X dX0_personAs_51 rfl 0 rfl ?_
    exact tx_castN (C := C) (nm := asN 3) Y hl q540 hnc ⟨hp.1, (pk_as 3 ha).1, hp.2, (pk_as 3 ha).2⟩ (hr0 s X.hK) ⟨Nat.le_of_ble_eq_true rfl, Nat.le_of_ble_eq_true rfl⟩ ⟨Nat.le_of_ble_eq_true rfl, Nat.le_of_ble_eq_true rfl⟩ (Nat.zero_le _) dX0_personAs_52 (fun t q b => tx_out X htab (Nat.le_refl _) (Nat.le_refl _) (fun t2 e2 => Or.inl ⟨rfl, rfl, by rw [e2]; exact b.1, b.2⟩))
  | 4, ha, hnc =>
    refine tw_tableIn (off := 55) (tgt := 56) X dX0_personAs_1 (v := nI 4) rfl (by decide) (by decide) rfl rfl ?_
    refine tw_aload_n X dX0_personAs_56 rfl 0 rfl ?_
    exact tx_castN (C := C) (nm := asN 4) Y hl q549 hnc ⟨hp.1, (pk_as 4 ha).1, hp.2, (pk_as 4 ha).2⟩ (hr0 s X.hK) ⟨Nat.le_of_ble_eq_true rfl, Nat.le_of_ble_eq_true rfl⟩ ⟨Nat.le_of_ble_eq_true rfl, Nat.le_of_ble_eq_true rfl⟩ (Nat.zero_le _) dX0_personAs_57 (fun t q b => tx_out X htab (Nat.le_refl _) (Nat.le_refl _) (fun t2 e2 => Or.inl ⟨rfl, rfl, by rw [e2]; exact b.1, b.2⟩))
  | 5, ha, hnc =>
    refine tw_tableOut (tgt := 61) X dX0_personAs_1 (Or.inr (by decide)) rfl ?_
    refine tw_aload_n X dX0_personAs_61 rfl 0 rfl ?_
    exact tx_castN (C := C) (nm := asN 5) Y hl q558 hnc ⟨hp.1, (pk_as 5 ha).1, hp.2, (pk_as 5 ha).2⟩ (hr0 s X.hK) ⟨Nat.le_of_ble_eq_true rfl, Nat.le_of_ble_eq_true rfl⟩ ⟨Nat.le_of_ble_eq_true rfl, Nat.le_of_ble_eq_true rfl⟩ (Nat.zero_le _) dX0_personAs_62 (fun t q b => tx_out X htab (Nat.le_refl _) (Nat.le_refl _) (fun t2 e2 => Or.inl ⟨rfl, rfl, by rw [e2]; exact b.1, b.2⟩))
set_option maxHeartbeats 4000000 in
theorem kx_pasO {a q kd : Nat} {fs : List Value} (ha : a < 6) (h1 : 1 ≤ kd) (h5 : kd ≤ 5) (hm : (q, (.inr (6 + kd, fs) : va_E)) ∈ dy) (hu : unK kd a = true) : CX l yX0_personAs cX0_personAs 2 (some (.object "HadForVoice$Person")) 8 10260 3 1010 D vwCl (kT δ) A aK aV (kW K δ sr ρ dy) [.ref q, .int (nI a)] g (fun w t => w = some (.ref q) ∧ BW D vwCl A (kW K δ sr ρ dy) g t) (fun _ _ _ => False) := by
  refine cx_intro (own := RX0) (lv0 := [(0, .ref q), (1, .int (nI a))]) (by decide) rfl (Nat.le_of_ble_eq_true rfl) rfl ?_
  intro p e s m args below meth c Y hr hmn htab
  have X := Y.x
  refine tw_iload_n X dX0_personAs_0 rfl 1 rfl ?_
  match a, ha, kd, h1, h5, hm, hu with
  | 0, _, 1, _, _, hm, _ =>
    refine tw_tableIn (off := 35) (tgt := 36) X dX0_personAs_1 (v := nI 0) rfl (by decide) (by decide) rfl rfl ?_
    refine tw_aload_n X dX0_personAs_36 rfl 0 rfl ?_
    refine tr_castU X (ps_recv X (by decide) (by decide) hm) nq2218 q350 dX0_personAs_37 ?_
    exact tx_aret X hr (Or.inl ⟨_, rfl⟩) (Or.inr ⟨_, rfl⟩) (Nat.zero_le _) (Nat.zero_le _) (fun t b => ⟨rfl, b⟩) dX0_personAs_40
  | 0, _, 2, _, _, hm, _ =>
    refine tw_tableIn (off := 35) (tgt := 36) X dX0_personAs_1 (v := nI 0) rfl (by decide) (by decide) rfl rfl ?_
    refine tw_aload_n X dX0_personAs_36 rfl 0 rfl ?_
    refine tr_castU X (ps_recv X (by decide) (by decide) hm) nq2219 q350 dX0_personAs_37 ?_
    exact tx_aret X hr (Or.inl ⟨_, rfl⟩) (Or.inr ⟨_, rfl⟩) (Nat.zero_le _) (Nat.zero_le _) (fun t b => ⟨rfl, b⟩) dX0_personAs_40
  | 0, _, 3, _, _, hm, _ =>
    refine tw_tableIn (off := 35) (tgt := 36) X dX0_personAs_1 (v := nI 0) rfl (by decide) (by decide) rfl rfl ?_
    refine tw_aload_n X dX0_personAs_36 rfl 0 rfl ?_
    refine tr_castU X (ps_recv X (by decide) (by decide) hm) nq2221 q350 dX0_personAs_37 ?_
    exact tx_aret X hr (Or.inl ⟨_, rfl⟩) (Or.inr ⟨_, rfl⟩) (Nat.zero_le _) (Nat.zero_le _) (fun t b => ⟨rfl, b⟩) dX0_personAs_40
  | 0, _, 4, _, _, hm, _ =>
    refine tw_tableIn (off := 35) (tgt := 36) X dX0_personAs_1 (v := nI 0) rfl (by decide) (by decide) rfl rfl ?_
    refine tw_aload_n X dX0_personAs_36 rfl 0 rfl ?_
    refine tr_castU X (ps_recv X (by decide) (by decide) hm) nq2220 q350 dX0_personAs_37 ?_
    exact tx_aret X hr (Or.inl ⟨_, rfl⟩) (Or.inr ⟨_, rfl⟩) (Nat.zero_le _) (Nat.zero_le _) (fun t b => ⟨rfl, b⟩) dX0_personAs_40
  | 0, _, 5, _, _, hm, _ =>
    refine tw_tableIn (off := 35) (tgt := 36) X dX0_personAs_1 (v := nI 0) rfl (by decide) (by decide) rfl rfl ?_
    refine tw_aload_n X dX0_personAs_36 rfl 0 rfl ?_
    refine tr_castU X (ps_recv X (by decide) (by decide) hm) nq2217 q350 dX0_personAs_37 ?_
    exact tx_aret X hr (Or.inl ⟨_, rfl⟩) (Or.inr ⟨_, rfl⟩) (Nat.zero_le _) (Nat.zero_le _) (fun t b => ⟨rfl, b⟩) dX0_personAs_40
  | 1, _, 1, _, _, hm, _ =>
    refine tw_tableIn (off := 40) (tgt := 41) X dX0_personAs_1 (v := nI 1) rfl (by decide) (by decide) rfl rfl ?_
    refine tw_aload_n X dX0_personAs_41 rfl 0 rfl ?_
    refine tr_castS X (ps_recv X (by decide) (by decide) hm) q515 dX0_personAs_42 ?_
    exact tx_aret X hr (Or.inl ⟨_, rfl⟩) (Or.inr ⟨_, rfl⟩) (Nat.zero_le _) (Nat.zero_le _) (fun t b => ⟨rfl, b⟩) dX0_personAs_45
  | 1, _, 2, _, _, hm, hu => exact absurd hu (by decide)
  | 1, _, 3, _, _, hm, hu => exact absurd hu (by decide)
  | 1, _, 4, _, _, hm, hu => exact absurd hu (by decide)
  | 1, _, 5, _, _, hm, hu => exact absurd hu (by decide)
  | 2, _, 1, _, _, hm, hu => exact absurd hu (by decide)
  | 2, _, 2, _, _, hm, _ =>
    refine tw_tableIn (off := 45) (tgt := 46) X dX0_personAs_1 (v := nI 2) rfl (by decide) (by decide) rfl rfl ?_
    refine tw_aload_n X dX0_personAs_46 rfl 0 rfl ?_
    refine tr_castS X (ps_recv X (by decide) (by decide) hm) q531 dX0_personAs_47 ?_
    exact tx_aret X hr (Or.inl ⟨_, rfl⟩) (Or.inr ⟨_, rfl⟩) (Nat.zero_le _) (Nat.zero_le _) (fun t b => ⟨rfl, b⟩) dX0_personAs_50
  | 2, _, 3, _, _, hm, _ =>
    refine tw_tableIn (off := 45) (tgt := 46) X dX0_personAs_1 (v := nI 2) rfl (by decide) (by decide) rfl rfl ?_
    refine tw_aload_n X dX0_personAs_46 rfl 0 rfl ?_
    refine tr_castU X (ps_recv X (by decide) (by decide) hm) nq2222 q531 dX0_personAs_47 ?_
    exact tx_aret X hr (Or.inl ⟨_, rfl⟩) (Or.inr ⟨_, rfl⟩) (Nat.zero_le _) (Nat.zero_le _) (fun t b => ⟨rfl, b⟩) dX0_personAs_50
  | 2, _, 4, _, _, hm, hu => exact absurd hu (by decide)
  | 2, _, 5, _, _, hm, hu => exact absurd hu (by decide)
  | 3, _, 1, _, _, hm, hu => exact absurd hu (by decide)
  | 3, _, 2, _, _, hm, hu => exact absurd hu (by decide)
  | 3, _, 3, _, _, hm, _ =>
    refine tw_tableIn (off := 50) (tgt := 51) X dX0_personAs_1 (v := nI 3) rfl (by decide) (by decide) rfl rfl ?_
    refine tw_aload_n X dX0_personAs_51 rfl 0 rfl ?_
    refine tr_castS X (ps_recv X (by decide) (by decide) hm) q540 dX0_personAs_52 ?_
    exact tx_aret X hr (Or.inl ⟨_, rfl⟩) (Or.inr ⟨_, rfl⟩) (Nat.zero_le _) (Nat.zero_le _) (fun t b => ⟨rfl, b⟩) dX0_personAs_55
  | 3, _, 4, _, _, hm, hu => exact absurd hu (by decide)
  | 3, _, 5, _, _, hm, hu => exact absurd hu (by decide)
  | 4, _, 1, _, _, hm, hu => exact absurd hu (by decide)
  | 4, _, 2, _, _, hm, hu => exact absurd hu (by decide)
  | 4, _, 3, _, _, hm, hu => exact absurd hu (by decide)
  | 4, _, 4, _, _, hm, _ =>
    refine tw_tableIn (off := 55) (tgt := 56) X dX0_personAs_1 (v := nI 4) rfl (by decide) (by decide) rfl rfl ?_
    refine tw_aload_n X dX0_personAs_56 rfl 0 rfl ?_
    refine tr_castS X (ps_recv X (by decide) (by decide) hm) q549 dX0_personAs_57 ?_
    exact tx_aret X hr (Or.inl ⟨_, rfl⟩) (Or.inr ⟨_, rfl⟩) (Nat.zero_le _) (Nat.zero_le _) (fun t b => ⟨rfl, b⟩) dX0_personAs_60
  | 4, _, 5, _, _, hm, _ =>
    refine tw_tableIn (off := 55) (tgt := 56) X dX0_personAs_1 (v := nI 4) rfl (by decide) (by decide) rfl rfl ?_
    refine tw_aload_n X dX0_personAs_56 rfl 0 rfl ?_
    refine tr_castU X (ps_recv X (by decide) (by decide) hm) nq2223 q549 dX0_personAs_57 ?_
    exact tx_aret X hr (Or.inl ⟨_, rfl⟩) (Or.inr ⟨_, rfl⟩) (Nat.zero_le _) (Nat.zero_le _) (fun t b => ⟨rfl, b⟩) dX0_personAs_60
  | 5, _, 1, _, _, hm, hu => exact absurd hu (by decide)
  | 5, _, 2, _, _, hm, hu => exact absurd hu (by decide)
  | 5, _, 3, _, _, hm, hu => exact absurd hu (by decide)
  | 5, _, 4, _, _, hm, hu => exact absurd hu (by decide)
  | 5, _, 5, _, _, hm, _ =>
    refine tw_tableOut (tgt := 61) X dX0_personAs_1 (Or.inr (by decide)) rfl ?_
    refine tw_aload_n X dX0_personAs_61 rfl 0 rfl ?_
    refine tr_castS X (ps_recv X (by decide) (by decide) hm) q558 dX0_personAs_62 ?_
    exact tx_aret X hr (Or.inl ⟨_, rfl⟩) (Or.inr ⟨_, rfl⟩) (Nat.zero_le _) (Nat.zero_le _) (fun t b => ⟨rfl, b⟩) dX0_personAs_65
theorem HX.re {u : Nat} {a : Int32} {q : Addr} {E : String} {t t2 : State} (e2 : t2.heap = t.heap) (h : HX D A K δ sr ρ dy g u a q E t) : HX D A K δ sr ρ dy g u a q E t2 := by
  rcases h with ⟨h3, h4, b⟩ | ⟨h3, h4, b⟩ | ⟨h3, h4, h5, b⟩
  · exact Or.inl ⟨h3, h4, by rw [e2]; exact b.1, b.2⟩
  · exact Or.inr (Or.inl ⟨h3, h4, by rw [e2]; exact b.1, b.2⟩)
  · exact Or.inr (Or.inr ⟨h3, h4, h5, by rw [e2]; exact b.1, b.2⟩)
theorem TKs.v {v : Value} {a : Nat} {r : Int32 ⊕ Nat} (h : TKs δ dy v a r) : (v = .null ∨ ∃ x, v = .ref x) ∧ a < 15 := by
  rcases h with ⟨ha, ⟨rfl, _⟩ | ⟨q, k, N, f, rfl, _⟩ | ⟨q, kd, x, y, rfl, _⟩⟩ | ⟨k, r0, hk, rfl, h, _⟩
  · exact ⟨Or.inl rfl, by omega⟩
  · exact ⟨Or.inr ⟨_, rfl⟩, by omega⟩
  · exact ⟨Or.inr ⟨_, rfl⟩, by omega⟩
  · exact ⟨h.v, by omega⟩
theorem sh_recvS {s : State} {q k N : Nat} {f : Nat → Int32} (hm : (q, shE δ k N f) ∈ dy) (hK : va_K D vwCl (kT δ) s) : ∀ H : Heap, va_P D vwCl (kW K δ sr ρ dy g) H → ∃ cell : Cell, H[q]? = some cell ∧ cell.vm.isStatics = false ∧ s.vm.findClass (shN k) = some cell.cls := by
  intro H hP
  obtain ⟨q0, he⟩ := kW_dy (K := K) (sr := sr) (ρ := ρ) (δ := δ) (g := g) hm
  obtain ⟨x, hx, _⟩ := sh_at (δ := δ) (N := N) (c := f) k
  have := hP q0 _ he
  rw [hx] at this
  have hf : s.vm.findClass (shN k) = some (shD δ k) := by
    have h := (hK.2 (shI k) _ (sh_ty k)).2
    rw [← sh_nm k]
    match k with
    | 0 => exact h
    | 1 => exact h
    | 2 => exact h
    | 3 => exact h
    | _ + 4 => exact h
  refine ⟨_, this, ?_, ?_⟩
  · obtain ⟨n, f | f | f | f | f⟩ := x <;> rfl
  · rw [hf]
    obtain ⟨n, f | f | f | f | f⟩ := x <;> rfl
theorem ps_recvS {s : State} {q kd : Nat} {fs : List Value} (h1 : 1 ≤ kd) (h5 : kd ≤ 5) (hm : (q, (.inr (6 + kd, fs) : va_E)) ∈ dy) (hK : va_K D vwCl (kT δ) s) : ∀ H : Heap, va_P D vwCl (kW K δ sr ρ dy g) H → ∃ cell : Cell, H[q]? = some cell ∧ cell.vm.isStatics = false ∧ s.vm.findClass (pN kd) = some cell.cls := by
  intro H hP
  obtain ⟨q0, he⟩ := kW_dy (K := K) (sr := sr) (ρ := ρ) (δ := δ) (g := g) hm
  obtain ⟨T, hc⟩ := pN_cl kd h1 h5
  exact va_recv (q := (pN kd, T, 2)) hK hP hc he
theorem kx_takenAs (hl : l.stackTraces = false) {v : Value} {a : Nat} {r : Int32 ⊕ Nat} (h : TKs δ dy v a r) : CX l yX0_takenAs cX0_takenAs 2 (some .int) 9 10300 3 1010 D vwCl (kT δ) A aK aV (kW K δ sr ρ dy) [v, .int (nI a)] g (fun w t => ∃ x, r = .inl x ∧ w = some (.int x) ∧ BW D vwCl A (kW K δ sr ρ dy) g t) (fun q E t => ∃ u, r = .inr u ∧ u < 2 ∧ HX D A K δ sr ρ dy g u 0 q E t) := by
  obtain ⟨hv, ha15⟩ := h.v
  have hv1 : lv_args 0 [v, .int (nI a)] = [(0, v), (1, .int (nI a))] ∧ (lg_sl [v, .int (nI a)]).length ≤ 2 := by
    rcases hv with rfl | ⟨x, rfl⟩ <;> exact ⟨rfl, Nat.le_of_ble_eq_true rfl⟩
  refine cx_intro (own := RX0) (lv0 := [(0, v), (1, .int (nI a))]) (by decide) rfl hv1.2 hv1.1 ?_
  intro p e s m args below meth c Y hr hmn htab
  have X := Y.x
  refine tw_iload_n X dX0_takenAs_0 rfl 1 rfl ?_
  refine tw_bipush (v := 10) X dX0_takenAs_1 rfl ?_
  rcases h with ⟨ha, h⟩ | ⟨k, r0, hk, rfl, h, rfl⟩
  · refine tw_icmp_lt (a := ()) (b := ()) (z := ()) (tgt := 17) X dX0_takenAs_3 rfl (ite_self _) (fun _ _ => ?_) (fun z _ => absurd (nI_lt (b := 10) (by omega) (by decide)) z)
    rcases h with ⟨rfl, rfl⟩ | ⟨q, k, N, f, rfl, hk, hm, rfl⟩ | ⟨q, kd, x, y, rfl, h1, h5, hm, rfl⟩
    · refine tw_aload_nN X dX0_takenAs_17 rfl 0 rfl ?_
      refine tw_iload_n X dX0_takenAs_18 rfl 1 rfl ?_
      refine tx_widen (k := 0) (n := 0) (Nat.zero_le _) (Nat.zero_le _) ?_
      refine tx_callS (n := 2) (As := [.null, .int (nI a)]) (st := []) Y (kx_pasN' ha) kGX0_566 kI_X0_personAs ⟨Nat.le_of_ble_eq_true rfl, Nat.le_of_ble_eq_true rfl⟩ ⟨Nat.le_of_ble_eq_true rfl, Nat.le_of_ble_eq_true rfl⟩ rfl rfl (Nat.zero_le _) dX0_takenAs_19 (fun E x t h => h.elim) (fun v t h => ?_)
      obtain ⟨rfl, hb⟩ := h
      refine TW.at ?_ hb
      exact tx_invN (C := "HadForVoice$Maid") Y hl q1309 q1310 q1317 q1313 ⟨nu_d.1, nu_d.2.1⟩ nu_d.2.2 ⟨Nat.le_of_ble_eq_true rfl, Nat.le_of_ble_eq_true rfl⟩ ⟨Nat.le_of_ble_eq_true rfl, Nat.le_of_ble_eq_true rfl⟩ (Nat.zero_le _) dX0_takenAs_22 (fun t q b => tx_out X htab (Nat.le_of_ble_eq_true rfl) (Nat.le_of_ble_eq_true rfl) (fun t2 e2 => ⟨1, rfl, by decide, Or.inr (Or.inl ⟨rfl, rfl, by rw [e2]; exact b.1, b.2⟩)⟩))
    · refine tw_aload_n X dX0_takenAs_17 rfl 0 rfl ?_
      refine tw_iload_n X dX0_takenAs_18 rfl 1 rfl ?_
      exact tx_callS (n := 2) (As := [.ref q, .int (nI a)]) (st := []) Y (kx_pasX hl ha (nc_sa hk ha) (pk_sh k hk) (fun s hK => sh_recvS hm hK)) kGX0_566 kI_X0_personAs ⟨Nat.le_of_ble_eq_true rfl, Nat.le_of_ble_eq_true rfl⟩ ⟨Nat.le_of_ble_eq_true rfl, Nat.le_of_ble_eq_true rfl⟩ rfl rfl (Nat.zero_le _) dX0_takenAs_19 (fun E x t h => tx_out X htab (Nat.le_refl _) (Nat.le_refl _) (fun t2 e2 => ⟨0, rfl, by decide, HX.re e2 h⟩)) (fun v t h => h.elim)
    · refine tw_aload_n X dX0_takenAs_17 rfl 0 rfl ?_
      refine tw_iload_n X dX0_takenAs_18 rfl 1 rfl ?_
      cases hu : unK kd a with
      | true =>
        refine tx_callS (n := 2) (As := [.ref q, .int (nI a)]) (st := []) Y (kx_pasO ha h1 h5 hm hu) kGX0_566 kI_X0_personAs ⟨Nat.le_of_ble_eq_true rfl, Nat.le_of_ble_eq_true rfl⟩ ⟨Nat.le_of_ble_eq_true rfl, Nat.le_of_ble_eq_true rfl⟩ rfl rfl (Nat.zero_le _) dX0_takenAs_19 (fun E x t h => h.elim) (fun v t h => ?_)
        obtain ⟨rfl, hb⟩ := h
        refine TW.at ?_ hb
        refine tr_number X h1 h5 hm ⟨Nat.le_of_ble_eq_true rfl, Nat.le_of_ble_eq_true rfl⟩ ⟨Nat.le_of_ble_eq_true rfl, Nat.le_of_ble_eq_true rfl⟩ (Nat.zero_le _) dX0_takenAs_22 ?_
        exact tx_iret X hr (Nat.le_refl _) (Nat.le_refl _) (fun t b => ⟨x, rfl, rfl, b⟩) dX0_takenAs_25
      | false =>
        exact tx_callS (n := 2) (As := [.ref q, .int (nI a)]) (st := []) Y (kx_pasX hl ha (nc_un h1 h5 ha hu) (pk_ps kd (by omega)) (fun s hK => ps_recvS h1 h5 hm hK)) kGX0_566 kI_X0_personAs ⟨Nat.le_of_ble_eq_true rfl, Nat.le_of_ble_eq_true rfl⟩ ⟨Nat.le_of_ble_eq_true rfl, Nat.le_of_ble_eq_true rfl⟩ rfl rfl (Nat.zero_le _) dX0_takenAs_19 (fun E x t h => tx_out X htab (Nat.le_refl _) (Nat.le_refl _) (fun t2 e2 => ⟨0, rfl, by decide, HX.re e2 h⟩)) (fun v t h => h.elim)
  · refine tw_icmp_lt (a := ()) (b := ()) (z := ()) (tgt := 17) X dX0_takenAs_3 rfl (ite_self _) (fun z _ => absurd z (nI_nlt (b := 10) (by omega) (by omega))) (fun _ _ => ?_)
    refine tw_aload_nV X h.v dX0_takenAs_6 rfl 0 rfl ?_
    refine tw_iload_n X dX0_takenAs_7 rfl 1 rfl ?_
    refine tw_bipush (v := 10) X dX0_takenAs_8 rfl ?_
    refine tw_isub X dX0_takenAs_10 ?_
    rw [show (10 : Int32) = nI 10 from rfl, pk_sub (by omega), show 10 + k - 10 = k by omega]
    refine tx_callS (n := 2) (As := [v, .int (nI k)]) (st := []) Y (kx_manyOf hl hk h) kGX0_548 kI_X0_manyOf ⟨Nat.le_of_ble_eq_true rfl, Nat.le_of_ble_eq_true rfl⟩ ⟨Nat.le_of_ble_eq_true rfl, Nat.le_of_ble_eq_true rfl⟩ rfl rfl (Nat.zero_le _) dX0_takenAs_11 (fun E x t h2 => ?_) (fun v t h2 => ?_)
    · obtain ⟨u, rfl, hx⟩ := h2
      have hu2 : u < 2 := by
        rcases h with ⟨_, _, _, _, _, _, z⟩ | ⟨_, _, _, _, _, _, _, _, z⟩ | ⟨_, _, _, _, _, _, _, z⟩ | ⟨_, z⟩ <;> cases z <;> decide
      exact tx_out X htab (Nat.le_refl _) (Nat.le_refl _) (fun t2 e2 => ⟨u, rfl, hu2, HX.re e2 hx⟩)
    · obtain ⟨N, rfl, rfl, hb⟩ := h2
      refine TW.at ?_ hb
      refine tw_goto (tgt := 25) X dX0_takenAs_14 rfl ?_
      exact tx_iret X hr (Nat.le_refl _) (Nat.le_refl _) (fun t b => ⟨nI N, rfl, rfl, b⟩) dX0_takenAs_25
abbrev hhTaken : List (Nat × Nat × Nat × Nat) := [((29 : Nat), (38 : Nat), (39 : Nat), (556 : Nat)), ((29 : Nat), (38 : Nat), (43 : Nat), (558 : Nat))]
theorem kx_taken_bad {i a : Int32} (h : kF_isShelf i = 0 ∨ (kF_isIn a 0 5 = 0 ∧ kF_isIn a 10 14 = 0)) : CXW l yX0_taken cX0_taken 4 (some .int) hhTaken 10 10340 3 1010 D vwCl (kT δ) A aK aV (kW K δ sr ρ dy) [.ref (K 0), .int i, .int a] g (SA D A K δ sr ρ dy g (-1)) (fun _ _ _ => False) := by
  refine cxW_intro (own := RX0) (lv0 := [(0, .ref (K 0)), (1, .int i), (2, .int a)]) (by decide) rfl (Nat.le_of_ble_eq_true rfl) rfl ?_
  intro p e s m args below meth c Y hr htab
  have X := Y.x
  have bad : TW p l e (romX 10 10340 3 1010) s m args below meth c (vx_MQ below (QO A (SA D A K δ sr ρ dy g (-1))) (XO A (fun _ _ _ => False)) args s 3 1010 A) D vwCl A (kW K δ sr ρ dy) 4 0 0 g 27 [(0, .ref (K 0)), (1, .int i), (2, .int a)] [] := by
    refine tw_iconst (v := -1) X dX0_taken_27 rfl ?_
    exact tx_iret X hr (Nat.zero_le _) (Nat.zero_le _) (fun t b => ⟨rfl, b⟩) dX0_taken_28
  refine tw_iload_n X dX0_taken_0 rfl 1 rfl ?_
  refine tp_isShelf X ⟨Nat.le_of_ble_eq_true rfl, Nat.le_of_ble_eq_true rfl⟩ ⟨Nat.zero_le _, Nat.zero_le _⟩ (Nat.zero_le _) dX0_taken_1 (fun _ => ?_)
  refine tw_if_eq (a := ()) (b := ()) (z := ()) (tgt := 27) X dX0_taken_4 rfl (ite_self _) (fun _ _ => bad) (fun z1 _ => ?_)
  have h := h.resolve_left z1
  refine tw_iload_n X dX0_taken_7 rfl 2 rfl ?_
  refine tw_iconst (v := 0) X dX0_taken_8 rfl ?_
  refine tw_iconst (v := 5) X dX0_taken_9 rfl ?_
  refine tp_isIn X ⟨Nat.le_of_ble_eq_true rfl, Nat.le_of_ble_eq_true rfl⟩ ⟨Nat.zero_le _, Nat.zero_le _⟩ (Nat.zero_le _) dX0_taken_10 (fun _ => ?_)
  refine tw_if_ne (a := ()) (b := ()) (z := ()) (tgt := 29) X dX0_taken_13 rfl (ite_self _) (fun _ _ => ?_) (fun z _ => absurd h.1 z)
  refine tw_iload_n X dX0_taken_16 rfl 2 rfl ?_
  refine tw_bipush (v := 10) X dX0_taken_17 rfl ?_
  refine tw_bipush (v := 14) X dX0_taken_19 rfl ?_
  refine tp_isIn X ⟨Nat.le_of_ble_eq_true rfl, Nat.le_of_ble_eq_true rfl⟩ ⟨Nat.zero_le _, Nat.zero_le _⟩ (Nat.zero_le _) dX0_taken_21 (fun _ => ?_)
  exact tw_if_ne (a := ()) (b := ()) (z := ()) (tgt := 29) X dX0_taken_24 rfl (ite_self _) (fun _ _ => bad) (fun z _ => absurd h.2 z)
theorem kx_taken (hl : l.stackTraces = false) {i a : Nat} {v : Value} {r : Int32 ⊕ Nat} (hi : i < 4) (hh : HeldIs g δ ρ dy i v) (h : TKs δ dy v a r) : CXW l yX0_taken cX0_taken 4 (some .int) hhTaken 10 10340 3 1010 D vwCl (kT δ) A aK aV (kW K δ sr ρ dy) [.ref (K 0), .int (nI i), .int (nI a)] g (SA D A K δ sr ρ dy g (Sum.elim id (fun u => if u = 0 then -13 else -11) r)) (fun _ _ _ => False) := by
  refine cxW_intro (own := RX0) (lv0 := [(0, .ref (K 0)), (1, .int (nI i)), (2, .int (nI a))]) (by decide) rfl (Nat.le_of_ble_eq_true rfl) rfl ?_
  intro p e s m args below meth c Y hr htab
  have X := Y.x
  refine tw_iload_n X dX0_taken_0 rfl 1 rfl ?_
  refine tp_isShelf X ⟨Nat.le_of_ble_eq_true rfl, Nat.le_of_ble_eq_true rfl⟩ ⟨Nat.zero_le _, Nat.zero_le _⟩ (Nat.zero_le _) dX0_taken_1 (fun _ => ?_)
  rw [is4 i hi]
  refine tw_if_eq (a := ()) (b := ()) (z := ()) (tgt := 27) X dX0_taken_4 rfl (ite_self _) (fun z _ => absurd z (by decide)) (fun _ _ => ?_)
  refine tw_iload_n X dX0_taken_7 rfl 2 rfl ?_
  refine tw_iconst (v := 0) X dX0_taken_8 rfl ?_
  refine tw_iconst (v := 5) X dX0_taken_9 rfl ?_
  refine tp_isIn X ⟨Nat.le_of_ble_eq_true rfl, Nat.le_of_ble_eq_true rfl⟩ ⟨Nat.zero_le _, Nat.zero_le _⟩ (Nat.zero_le _) dX0_taken_10 (fun _ => ?_)
  have go : TW p l e (romX 10 10340 3 1010) s m args below meth c (vx_MQ below (QO A (SA D A K δ sr ρ dy g (Sum.elim id (fun u => if u = 0 then -13 else -11) r))) (XO A (fun _ _ _ => False)) args s 3 1010 A) D vwCl A (kW K δ sr ρ dy) 4 0 0 g 29 [(0, .ref (K 0)), (1, .int (nI i)), (2, .int (nI a))] [] := by
    refine tw_aload_n X dX0_taken_29 rfl 0 rfl ?_
    refine tw_iload_n X dX0_taken_30 rfl 1 rfl ?_
    refine tx_callV (n := 1) (b := K 0) (As := [.int (nI i)]) (st := []) Y (kx_held hi hh) kGX0_572 kI_X0_held ⟨Nat.le_of_ble_eq_true rfl, Nat.le_of_ble_eq_true rfl⟩ ⟨Nat.le_of_ble_eq_true rfl, Nat.le_of_ble_eq_true rfl⟩ 0 rfl rfl rfl rfl (Nat.zero_le _) dX0_taken_31 (fun E x t h => h.elim) (fun w t h2 => ?_)
    obtain ⟨rfl, hb⟩ := h2
    refine TW.at ?_ hb
    refine tw_iload_n X dX0_taken_34 rfl 2 rfl ?_
    refine tx_callS (n := 2) (As := [v, .int (nI a)]) (st := []) Y (kx_takenAs hl h) kGX0_575 kI_X0_takenAs ⟨Nat.le_of_ble_eq_true rfl, Nat.le_of_ble_eq_true rfl⟩ ⟨Nat.le_of_ble_eq_true rfl, Nat.le_of_ble_eq_true rfl⟩ rfl rfl (Nat.zero_le _) dX0_taken_35 (fun E x t h2 => ?_) (fun w t h2 => ?_)
    · obtain ⟨u, rfl, hu, hx⟩ := h2
      rcases hx with ⟨h0, rfl, b⟩ | ⟨h0, rfl, b⟩ | ⟨h0, _, _, b⟩
      · refine tx_catch X [] ⟨29, 38, 39, 556⟩ _ htab (fun z hz => by cases hz) (by decide) (by decide) q1226 nw_CC (TW.at ?_ b)
        refine tw_astore_n (lv' := [(3, .ref x), (0, .ref (K 0)), (1, .int (nI i)), (2, .int (nI a))]) X dX0_taken_39 rfl (by decide) rfl ?_
        refine tw_bipush (v := -13) X dX0_taken_40 rfl ?_
        exact tx_iret X hr (Nat.le_refl _) (Nat.le_refl _) (fun t b => ⟨by rw [h0]; rfl, b⟩) dX0_taken_42
      · refine tx_catch X [⟨29, 38, 39, 556⟩] ⟨29, 38, 43, 558⟩ _ htab (fun z hz => ?_) (by decide) (by decide) q1240 nw_NN (TW.at ?_ b)
        · rw [List.mem_singleton] at hz
          subst hz
          exact Or.inr ⟨by decide, _, q1226, Y.n.2.2.2.2.2.2.1 _ nc_NC⟩
        · refine tw_astore_n (lv' := [(3, .ref x), (0, .ref (K 0)), (1, .int (nI i)), (2, .int (nI a))]) X dX0_taken_43 rfl (by decide) rfl ?_
          refine tw_bipush (v := -11) X dX0_taken_44 rfl ?_
          exact tx_iret X hr (Nat.le_refl _) (Nat.le_refl _) (fun t b => ⟨by rw [h0]; rfl, b⟩) dX0_taken_46
      · omega
    · obtain ⟨x, rfl, rfl, hb2⟩ := h2
      refine TW.at ?_ hb2
      exact tx_iret X hr (Nat.le_refl _) (Nat.le_refl _) (fun t b => ⟨rfl, b⟩) dX0_taken_38
  refine tw_if_ne (a := ()) (b := ()) (z := ()) (tgt := 29) X dX0_taken_13 rfl (ite_self _) (fun z _ => ?_) (fun _ _ => go)
  refine tw_iload_n X dX0_taken_16 rfl 2 rfl ?_
  refine tw_bipush (v := 10) X dX0_taken_17 rfl ?_
  refine tw_bipush (v := 14) X dX0_taken_19 rfl ?_
  refine tp_isIn X ⟨Nat.le_of_ble_eq_true rfl, Nat.le_of_ble_eq_true rfl⟩ ⟨Nat.zero_le _, Nat.zero_le _⟩ (Nat.zero_le _) dX0_taken_21 (fun _ => ?_)
  refine tw_if_ne (a := ()) (b := ()) (z := ()) (tgt := 29) X dX0_taken_24 rfl (ite_self _) (fun z2 _ => ?_) (fun _ _ => go)
  have ha := h.v.2
  have key : ∀ a, a < 15 → ((kF_isIn (nI a) 0 5 = 0 ∧ kF_isIn (nI a) 10 14 = 0) → 6 ≤ a ∧ a < 10) := by
    unfold kF_isIn
    decide
  have k2 := key a ha ⟨z, z2⟩
  rcases h with ⟨h3, _⟩ | ⟨k, _, h3, h4, _⟩
  · omega
  · omega
end KHF
