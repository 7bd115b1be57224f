/-! the host: must, rowOf, length, set, manyOf, itemOf -/
set_option maxRecDepth 100000
theorem isIn_in {i : Int32} {N : Nat} (hN : N < 2 ^ 20) (h : ¬ kF_isIn i 0 (nI N - 1) = 0) : ∃ j, j < N ∧ i = nI j := by
  unfold kF_isIn at h
  by_cases h1 : i < 0
  · rw [if_pos h1] at h
    exact absurd rfl h
  · rw [if_neg h1] at h
    by_cases h2 : nI N - 1 < i
    · rw [if_pos h2] at h
      exact absurd rfl h
    · obtain ⟨j, hj, rfl⟩ := nI_of h1
      refine ⟨j, ?_, rfl⟩
      by_cases h0 : N = 0
      · subst h0
        exfalso
        apply h2
        have e1 : (nI 0 - 1 : Int32).toInt = -1 := by decide
        rw [Int32.lt_iff_toInt_lt, e1, nI_toInt hj]
        omega
      · rw [nI_m1 (by omega), nI_ltI (by omega) hj] at h2
        omega
theorem isIn_zb (a b c : Int32) : zb (kF_isIn a b c) := by
  unfold kF_isIn
  split
  · exact Or.inl rfl
  · split
    · exact Or.inl rfl
    · exact Or.inr rfl
/-- what is thrown: 0 a cast failed, 1 nothing was there, 2 the refusal with an answer -/
def HX (D : va_G) (A : Nat → Prop) (K : Nat → Nat) (δ : Nat → ClassId) (sr ρ : Rf) (dy : va_W) (g : St) (w : Nat) (a : Int32) : Addr → String → State → Prop := fun q E t => (w = 0 ∧ E = "java/lang/ClassCastException" ∧ BW D vwCl A (kW K δ sr ρ dy) g t) ∨ (w = 1 ∧ E = "java/lang/NullPointerException" ∧ BW D vwCl A (kW K δ sr ρ dy) g t) ∨ (w = 2 ∧ q = K 1 ∧ E = "HadForVoice$Refusal" ∧ BW D vwCl A (kW K δ sr ρ dy) (up2 g 35 0 a) t)
/-- a value taken for a row of a sort: how many items (inl), or what is thrown -/
def RVs (δ : Nat → ClassId) (dy : va_W) (v : Value) (so : Nat) (r : Nat ⊕ Nat) : Prop :=
  (∃ q N f, v = .ref q ∧ (q, shE δ so N f) ∈ dy ∧ N ≤ 40 ∧ r = .inl N) ∨ (∃ q k N f, v = .ref q ∧ k < 5 ∧ k ≠ so ∧ (q, shE δ k N f) ∈ dy ∧ r = .inr 0) ∨ (∃ q kd fs, v = .ref q ∧ 1 ≤ kd ∧ kd ≤ 5 ∧ (q, (.inr (6 + kd, fs) : va_E)) ∈ dy ∧ r = .inr 0) ∨ (v = .null ∧ r = .inr 1)
def pN (kd : Nat) : String := match kd with | 1 => "HadForVoice$Maid" | 2 => "HadForVoice$Miser" | 3 => "HadForVoice$Widow" | 4 => "HadForVoice$Prince" | _ => "HadForVoice$Beast"
theorem nc_ps0 : ∀ k, k < 6 → ∀ j, j < 5 → (k == 0 || ncL.contains (pN k, shN j)) = true := by decide +kernel
theorem nc_ps {k j : Nat} (h1 : 1 ≤ k) (hk : k ≤ 5) (hj : j < 5) : (pN k, shN j) ∈ ncL := by
  have h1 := nc_ps0 k (by omega) j hj
  rw [Bool.or_eq_true] at h1
  rcases h1 with h1 | h1
  · have := eq_of_beq h1
    omega
  · exact List.contains_iff_mem.mp h1
theorem pk_ps : ∀ k, k < 6 → packageOf (pN k) = "" ∧ (pN k).toList.length ≤ 20 := by decide +kernel
theorem pN_cl : ∀ kd, 1 ≤ kd → kd ≤ 5 → ∃ T, vwCl[6 + kd]? = some (pN kd, T, 2)
  | 1, _, _ => ⟨_, rfl⟩
  | 2, _, _ => ⟨_, rfl⟩
  | 3, _, _ => ⟨_, rfl⟩
  | 4, _, _ => ⟨_, rfl⟩
  | 5, _, _ => ⟨_, rfl⟩
section KHB
variable {p : Program} {l : Launch} {e0 : Env} {R : Room} {s : State} {m : MethodId} {args : Array Value} {below : List Frame} {meth : Method} {c : Code} {Q : State → Prop} {D : va_G} {A : Nat → Prop} {nL ce sl : Nat} {g : St} {pc : Nat} {lv : List (Nat × Value)} {st : List Value} {cc : ByteArray} {own : String} {K : Nat → Nat} {δ : Nat → ClassId} {sr ρ : Rf} {dy d1 d2 : va_W} {aK aV : Nat → Nat}
theorem ps_recv (X : Cx p c cc nL s args own m meth D vwCl (kT δ) A) {q kd : Nat} {fs : List Value} (h1 : 1 ≤ kd) (h5 : kd ≤ 5) (hm : (q, (.inr (6 + kd, fs) : va_E)) ∈ dy) : ∀ H : Heap, va_P D vwCl (kW K δ sr ρ dy g) H → ∃ cell : Cell, H[q]? = some cell ∧ cell.vm.isStatics = false ∧ s.vm.findClass (pN kd) = some cell.cls := by
  intro H hP
  obtain ⟨q0, he⟩ := kW_dy (K := K) (sr := sr) (ρ := ρ) (δ := δ) (g := g) hm
  obtain ⟨T, hc⟩ := pN_cl kd h1 h5
  exact va_recv (q := (pN kd, T, 2)) X.hK hP hc he
/-- a cast to the very class -/
theorem tr_castS (X : Cx p c cc nL s args own m meth D vwCl (kT δ) A) {C : String} {q index : Nat} (hr : ∀ H : Heap, va_P D vwCl (kW K δ sr ρ dy g) H → ∃ cell : Cell, H[q]? = some cell ∧ cell.vm.isStatics = false ∧ s.vm.findClass C = some cell.cls) (hlink : Cond.classLink own index C ∈ lw_all) (hdg : decode cc pc = .ok (.checkcast index, 3)) (kk : TW p l e0 R s m args below meth c Q D vwCl A (kW K δ sr ρ dy) nL ce sl g (pc + 3) lv (.ref q :: st)) : TW p l e0 R s m args below meth c Q D vwCl A (kW K δ sr ρ dy) nL ce sl g pc lv (.ref q :: st) := by
  intro H locs ls hl hP hD hS T hT XX
  obtain ⟨cell, h1, h2, h3⟩ := hr H hP
  obtain ⟨vm', X', stp⟩ := XX.checkcastYes X.hx X.hown (X.hts _ hlink) (by rw [hT]; exact h1) h2 h3 (va_asg _ _) (g := F0 m pc ls (.ref q :: st)) rfl rfl (by rw [X.hb]; exact hdg)
  obtain ⟨t, a1, b1⟩ := kk H locs ls hl hP hD hS (T.setVm vm') hT X'
  exact ⟨t, stp t a1, b1⟩
theorem tr_castNull (X : Cx p c cc nL s args own m meth D vwCl (kT δ) A) {index : Nat} (hdg : decode cc pc = .ok (.checkcast index, 3)) (kk : TW p l e0 R s m args below meth c Q D vwCl A (kW K δ sr ρ dy) nL ce sl g (pc + 3) lv (.null :: st)) : TW p l e0 R s m args below meth c Q D vwCl A (kW K δ sr ρ dy) nL ce sl g pc lv (.null :: st) := by
  intro H locs ls hl hP hD hS T hT XX
  obtain ⟨t, a1, b1⟩ := kk H locs ls hl hP hD hS T hT XX
  exact ⟨t, XX.checkcastNull X.hx (g := F0 m pc ls (.null :: st)) rfl (rest := st) rfl (by rw [X.hb]; exact hdg) t a1, b1⟩
theorem kx_ofR (x : Int32) : CX l yX1_of cX1_of 2 (some (.object "HadForVoice$Refusal")) 0 0 0 0 D vwCl (kT δ) A aK aV (kW K δ sr ρ dy) [.ref (K 1), .int x] g (fun v t => v = some (.ref (K 1)) ∧ BW D vwCl A (kW K δ sr ρ dy) (up2 g 35 0 x) t) (fun _ _ _ => False) := by
  refine cx_intro (own := RX1) (lv0 := [(0, .ref (K 1)), (1, .int x)]) (by decide) rfl (Nat.le_of_ble_eq_true rfl) rfl ?_
  intro p e s m args below meth c Y hr hmn htab
  refine tw_aload_n Y.x dX1_of_0 rfl 0 rfl ?_
  refine tw_iload_n Y.x dX1_of_1 rfl 1 rfl ?_
  refine tw_put (g' := up2 g 35 0 x) (ty := .int) Y.x in_X1 tyX1 tyX1_ok nmX1 1 rfl rfl 6 (by decide) q228 rfl rfl rfl rfl rfl (Nat.le_of_ble_eq_true rfl) dX1_of_2 rfl ?_
  refine tw_aload_n Y.x dX1_of_5 rfl 0 rfl ?_
  exact tx_aret Y.x hr (Or.inl ⟨_, rfl⟩) (Or.inr ⟨_, rfl⟩) (Nat.le_refl _) (Nat.le_refl _) (fun t b => ⟨rfl, b⟩) dX1_of_6
theorem kx_must (b a : Int32) (hz : zb b) : CX l yX0_must cX0_must 3 none 1 25 0 0 D vwCl (kT δ) A aK aV (kW K δ sr ρ dy) [.ref (K 0), .int b, .int a] g (fun v t => ¬ b = 0 ∧ v = none ∧ BW D vwCl A (kW K δ sr ρ dy) g t) (fun q E t => b = 0 ∧ HX D A K δ sr ρ dy g 2 a q E t) := by
  refine cx_intro (own := RX0) (lv0 := [(0, .ref (K 0)), (1, .int b), (2, .int a)]) (by decide) rfl (Nat.le_of_ble_eq_true rfl) rfl ?_
  intro p e s m args below meth c Y hr hmn htab
  have X := Y.x
  refine tw_iload_n X dX0_must_0 rfl 1 rfl ?_
  refine tw_if_ne (a := ()) (b := ()) (z := ()) (tgt := 13) X dX0_must_1 rfl (ite_self _) (fun q _ => ?_) (fun q _ => ?_)
  · refine tw_aload_n X dX0_must_4 rfl 0 rfl ?_
    refine kgX0_1_0 X dX0_must_5 ?_
    refine tw_iload_n X dX0_must_8 rfl 2 rfl ?_
    refine tx_callV (n := 1) (b := K 1) (As := [.int a]) (st := []) Y (kx_ofR a) (lw_V q1210 q733 q2214 q120 q734) ⟨rfl, by decide +kernel⟩ ⟨Nat.le_of_ble_eq_true rfl, Nat.le_of_ble_eq_true rfl⟩ ⟨Nat.zero_le _, Nat.zero_le _⟩ 1 rfl rfl rfl rfl (Nat.zero_le _) dX0_must_9 (fun E x t h => h.elim) (fun v t h2 => ?_)
    obtain ⟨rfl, hb⟩ := h2
    refine TW.at ?_ hb
    refine tx_throw (q0 := 1) X rfl rfl dX0_must_12 (fun t b => ?_)
    exact tx_out X htab (Nat.le_refl _) (Nat.le_refl _) (fun t2 e2 => ⟨q, Or.inr (Or.inr ⟨rfl, rfl, rfl, by rw [e2]; exact b.1, b.2⟩)⟩)
  · exact tx_vret X hr (Nat.le_refl _) (Nat.le_refl _) (fun t b => ⟨q, rfl, b⟩) dX0_must_13
theorem kx_rowOf {k n : Nat} (hk : k < 5) (hn : n ≤ 40) : CX l yX0_rowOf cX0_rowOf 2 (some (.object "java/lang/Object")) 7 10260 3 1010 D vwCl (kT δ) A aK aV (kW K δ sr ρ dy) [.int (nI k), .int (nI n)] g (fun v t => ∃ q, v = some (.ref q) ∧ BW D vwCl A (kW K δ sr ρ (dy ++ [(q, shE δ k n (fun _ => 0))])) g t) (fun _ _ _ => False) := by
  refine cx_intro (own := RX0) (lv0 := [(0, .int (nI k)), (1, .int (nI n))]) (by decide) rfl (Nat.le_of_ble_eq_true rfl) rfl ?_
  intro p e s m args below meth c Y hr hmn htab
  have X := Y.x
  refine tw_iload_n X dX0_rowOf_0 rfl 0 rfl ?_
  match k, hk with
  | 0, _ =>
    refine tw_tableIn (off := 31) (tgt := 32) X dX0_rowOf_1 (v := nI 0) rfl (by decide) (by decide) rfl rfl ?_
    refine tw_iload_n X dX0_rowOf_32 rfl 1 rfl ?_
    refine tr_new (k := 0) (atype := .byte) X (by decide) rfl q385 (by omega) (show 0 + 1 ≤ 3 by omega) (show 0 + n ≤ 1010 by omega) dX0_rowOf_33 (fun q => ?_)
    exact tx_aret X hr (Or.inl ⟨_, rfl⟩) (Or.inr ⟨_, rfl⟩) (show 0 + 1 ≤ 3 by omega) (show 0 + n ≤ 1010 by omega) (fun t b => ⟨q, rfl, b⟩) dX0_rowOf_35
  | 1, _ =>
    refine tw_tableIn (off := 35) (tgt := 36) X dX0_rowOf_1 (v := nI 1) rfl (by decide) (by decide) rfl rfl ?_
    refine tw_iload_n X dX0_rowOf_36 rfl 1 rfl ?_
    refine tr_new (k := 1) (atype := .short) X (by decide) rfl q1199 (by omega) (show 0 + 1 ≤ 3 by omega) (show 0 + n ≤ 1010 by omega) dX0_rowOf_37 (fun q => ?_)
    exact tx_aret X hr (Or.inl ⟨_, rfl⟩) (Or.inr ⟨_, rfl⟩) (show 0 + 1 ≤ 3 by omega) (show 0 + n ≤ 1010 by omega) (fun t b => ⟨q, rfl, b⟩) dX0_rowOf_39
  | 2, _ =>
    refine tw_tableIn (off := 39) (tgt := 40) X dX0_rowOf_1 (v := nI 2) rfl (by decide) (by decide) rfl rfl ?_
    refine tw_iload_n X dX0_rowOf_40 rfl 1 rfl ?_
    refine tr_new (k := 2) (atype := .int) X (by decide) rfl q349 (by omega) (show 0 + 1 ≤ 3 by omega) (show 0 + n ≤ 1010 by omega) dX0_rowOf_41 (fun q => ?_)
    exact tx_aret X hr (Or.inl ⟨_, rfl⟩) (Or.inr ⟨_, rfl⟩) (show 0 + 1 ≤ 3 by omega) (show 0 + n ≤ 1010 by omega) (fun t b => ⟨q, rfl, b⟩) dX0_rowOf_43
  | 3, _ =>
    refine tw_tableIn (off := 43) (tgt := 44) X dX0_rowOf_1 (v := nI 3) rfl (by decide) (by decide) rfl rfl ?_
    refine tw_iload_n X dX0_rowOf_44 rfl 1 rfl ?_
    refine tr_new (k := 3) (atype := .long) X (by decide) rfl q1200 (by omega) (show 0 + 1 ≤ 3 by omega) (show 0 + n ≤ 1010 by omega) dX0_rowOf_45 (fun q => ?_)
    exact tx_aret X hr (Or.inl ⟨_, rfl⟩) (Or.inr ⟨_, rfl⟩) (show 0 + 1 ≤ 3 by omega) (show 0 + n ≤ 1010 by omega) (fun t b => ⟨q, rfl, b⟩) dX0_rowOf_47
  | 4, _ =>
    refine tw_tableOut (tgt := 48) X dX0_rowOf_1 (Or.inr (by decide)) rfl ?_
    refine tw_iload_n X dX0_rowOf_48 rfl 1 rfl ?_
    refine tr_new (k := 4) (atype := .boolean) X (by decide) rfl q1201 (by omega) (show 0 + 1 ≤ 3 by omega) (show 0 + n ≤ 1010 by omega) dX0_rowOf_49 (fun q => ?_)
    exact tx_aret X hr (Or.inl ⟨_, rfl⟩) (Or.inr ⟨_, rfl⟩) (show 0 + 1 ≤ 3 by omega) (show 0 + n ≤ 1010 by omega) (fun t b => ⟨q, rfl, b⟩) dX0_rowOf_51
theorem kx_rowOfZ (hl : l.stackTraces = false) {k : Nat} (hk : k < 5) {n : Int32} (hn : n < 0) (htx : ∀ tx : String, tx = toString n → (tx == notModelled) = false ∧ tx.toList.length ≤ 250) : CX l yX0_rowOf cX0_rowOf 2 (some (.object "java/lang/Object")) 7 10260 3 1010 D vwCl (kT δ) A aK aV (kW K δ sr ρ dy) [.int (nI k), .int n] g (fun _ _ => False) (fun q E t => E = "java/lang/NegativeArraySizeException" ∧ BW D vwCl A (kW K δ sr ρ dy) g t) := by
  refine cx_intro (own := RX0) (lv0 := [(0, .int (nI k)), (1, .int n)]) (by decide) rfl (Nat.le_of_ble_eq_true rfl) rfl ?_
  intro p e s m args below meth c Y hr hmn htab
  have X := Y.x
  refine tw_iload_n X dX0_rowOf_0 rfl 0 rfl ?_
  match k, hk with
  | 0, _ =>
    refine tw_tableIn (off := 31) (tgt := 32) X dX0_rowOf_1 (v := nI 0) rfl (by decide) (by decide) rfl rfl ?_
    refine tw_iload_n X dX0_rowOf_32 rfl 1 rfl ?_
    exact tx_newZ Y hl hn ⟨Nat.le_of_ble_eq_true rfl, Nat.le_of_ble_eq_true rfl⟩ ⟨Nat.le_of_ble_eq_true rfl, Nat.le_of_ble_eq_true rfl⟩ (Nat.zero_le _) dX0_rowOf_33 htx (fun t q b => tx_out X htab (Nat.le_refl _) (Nat.le_refl _) (fun t2 e2 => ⟨rfl, by rw [e2]; exact b.1, b.2⟩))
  | 1, _ =>
    refine tw_tableIn (off := 35) (tgt := 36) X dX0_rowOf_1 (v := nI 1) rfl (by decide) (by decide) rfl rfl ?_
    refine tw_iload_n X dX0_rowOf_36 rfl 1 rfl ?_
    exact tx_newZ Y hl hn ⟨Nat.le_of_ble_eq_true rfl, Nat.le_of_ble_eq_true rfl⟩ ⟨Nat.le_of_ble_eq_true rfl, Nat.le_of_ble_eq_true rfl⟩ (Nat.zero_le _) dX0_rowOf_37 htx (fun t q b => tx_out X htab (Nat.le_refl _) (Nat.le_refl _) (fun t2 e2 => ⟨rfl, by rw [e2]; exact b.1, b.2⟩))
  | 2, _ =>
    refine tw_tableIn (off := 39) (tgt := 40) X dX0_rowOf_1 (v := nI 2) rfl (by decide) (by decide) rfl rfl ?_
    refine tw_iload_n X dX0_rowOf_40 rfl 1 rfl ?_
    exact tx_newZ Y hl hn ⟨Nat.le_of_ble_eq_true rfl, Nat.le_of_ble_eq_true rfl⟩ ⟨Nat.le_of_ble_eq_true rfl, Nat.le_of_ble_eq_true rfl⟩ (Nat.zero_le _) dX0_rowOf_41 htx (fun t q b => tx_out X htab (Nat.le_refl _) (Nat.le_refl _) (fun t2 e2 => ⟨rfl, by rw [e2]; exact b.1, b.2⟩))
  | 3, _ =>
    refine tw_tableIn (off := 43) (tgt := 44) X dX0_rowOf_1 (v := nI 3) rfl (by decide) (by decide) rfl rfl ?_
    refine tw_iload_n X dX0_rowOf_44 rfl 1 rfl ?_
    exact tx_newZ Y hl hn ⟨Nat.le_of_ble_eq_true rfl, Nat.le_of_ble_eq_true rfl⟩ ⟨Nat.le_of_ble_eq_true rfl, Nat.le_of_ble_eq_true rfl⟩ (Nat.zero_le _) dX0_rowOf_45 htx (fun t q b => tx_out X htab (Nat.le_refl _) (Nat.le_refl _) (fun t2 e2 => ⟨rfl, by rw [e2]; exact b.1, b.2⟩))
  | 4, _ =>
    refine tw_tableOut (tgt := 48) X dX0_rowOf_1 (Or.inr (by decide)) rfl ?_
    refine tw_iload_n X dX0_rowOf_48 rfl 1 rfl ?_
    exact tx_newZ Y hl hn ⟨Nat.le_of_ble_eq_true rfl, Nat.le_of_ble_eq_true rfl⟩ ⟨Nat.le_of_ble_eq_true rfl, Nat.le_of_ble_eq_true rfl⟩ (Nat.zero_le _) dX0_rowOf_49 htx (fun t q b => tx_out X htab (Nat.le_refl _) (Nat.le_refl _) (fun t2 e2 => ⟨rfl, by rw [e2]; exact b.1, b.2⟩))
theorem kx_length {q k N : Nat} {f : Nat → Int32} (hk : k < 5) (hm : (q, shE δ k N f) ∈ dy) : CX l yX0_length cX0_length 1 (some .int) 0 0 0 0 D vwCl (kT δ) A aK aV (kW K δ sr ρ dy) [.ref q] g (fun v t => v = some (.int (nI N)) ∧ BW D vwCl A (kW K δ sr ρ dy) g t) (fun _ _ _ => False) := by
  refine cx_intro (own := RX0) (lv0 := [(0, .ref q)]) (by decide) rfl (Nat.le_of_ble_eq_true rfl) rfl ?_
  intro p e s m args below meth c Y hr hmn htab
  have X := Y.x
  match k, hk, hm with
  | 0, _, hm =>
    refine tw_aload_n X dX0_length_0 rfl 0 rfl ?_
    refine tr_instY (k := 0) X hm q1214 dX0_length_1 ?_
    refine tw_if_eq (a := ()) (b := ()) (z := ()) (tgt := 13) X dX0_length_4 rfl (ite_self _) (fun z _ => absurd z (by decide)) (fun _ _ => ?_)
    refine tw_aload_n X dX0_length_7 rfl 0 rfl ?_
    refine tr_castY (k := 0) X hm q1214 dX0_length_8 ?_
    refine tr_len (k := 0) X hm dX0_length_11 ?_
    exact tx_iret X hr (Nat.le_refl _) (Nat.le_refl _) (fun t b => ⟨rfl, b⟩) dX0_length_12
  | 1, _, hm =>
    refine tw_aload_n X dX0_length_0 rfl 0 rfl ?_
    refine tr_instN Y (sh_recv X hm) (nc_sh (k := 1) (j := 0) (by decide) (by decide) (by decide)) q1214 dX0_length_1 ?_
    refine tw_if_eq (a := ()) (b := ()) (z := ()) (tgt := 13) X dX0_length_4 rfl (ite_self _) (fun _ _ => ?_) (fun z _ => absurd rfl z)
    refine tw_aload_n X dX0_length_13 rfl 0 rfl ?_
    refine tr_instY (k := 1) X hm q1215 dX0_length_14 ?_
    refine tw_if_eq (a := ()) (b := ()) (z := ()) (tgt := 26) X dX0_length_17 rfl (ite_self _) (fun z _ => absurd z (by decide)) (fun _ _ => ?_)
    refine tw_aload_n X dX0_length_20 rfl 0 rfl ?_
    refine tr_castY (k := 1) X hm q1215 dX0_length_21 ?_
    refine tr_len (k := 1) X hm dX0_length_24 ?_
    exact tx_iret X hr (Nat.le_refl _) (Nat.le_refl _) (fun t b => ⟨rfl, b⟩) dX0_length_25
  | 2, _, hm =>
    refine tw_aload_n X dX0_length_0 rfl 0 rfl ?_
    refine tr_instN Y (sh_recv X hm) (nc_sh (k := 2) (j := 0) (by decide) (by decide) (by decide)) q1214 dX0_length_1 ?_
    refine tw_if_eq (a := ()) (b := ()) (z := ()) (tgt := 13) X dX0_length_4 rfl (ite_self _) (fun _ _ => ?_) (fun z _ => absurd rfl z)
    refine tw_aload_n X dX0_length_13 rfl 0 rfl ?_
    refine tr_instN Y (sh_recv X hm) (nc_sh (k := 2) (j := 1) (by decide) (by decide) (by decide)) q1215 dX0_length_14 ?_
    refine tw_if_eq (a := ()) (b := ()) (z := ()) (tgt := 26) X dX0_length_17 rfl (ite_self _) (fun _ _ => ?_) (fun z _ => absurd rfl z)
    refine tw_aload_n X dX0_length_26 rfl 0 rfl ?_
    refine tr_instY (k := 2) X hm q1216 dX0_length_27 ?_
    refine tw_if_eq (a := ()) (b := ()) (z := ()) (tgt := 39) X dX0_length_30 rfl (ite_self _) (fun z _ => absurd z (by decide)) (fun _ _ => ?_)
    refine tw_aload_n X dX0_length_33 rfl 0 rfl ?_
    refine tr_castY (k := 2) X hm q1216 dX0_length_34 ?_
    refine tr_len (k := 2) X hm dX0_length_37 ?_
    exact tx_iret X hr (Nat.le_refl _) (Nat.le_refl _) (fun t b => ⟨rfl, b⟩) dX0_length_38
  | 3, _, hm =>
    refine tw_aload_n X dX0_length_0 rfl 0 rfl ?_
    refine tr_instN Y (sh_recv X hm) (nc_sh (k := 3) (j := 0) (by decide) (by decide) (by decide)) q1214 dX0_length_1 ?_
    refine tw_if_eq (a := ()) (b := ()) (z := ()) (tgt := 13) X dX0_length_4 rfl (ite_self _) (fun _ _ => ?_) (fun z _ => absurd rfl z)
    refine tw_aload_n X dX0_length_13 rfl 0 rfl ?_
    refine tr_instN Y (sh_recv X hm) (nc_sh (k := 3) (j := 1) (by decide) (by decide) (by decide)) q1215 dX0_length_14 ?_
    refine tw_if_eq (a := ()) (b := ()) (z := ()) (tgt := 26) X dX0_length_17 rfl (ite_self _) (fun _ _ => ?_) (fun z _ => absurd rfl z)
    refine tw_aload_n X dX0_length_26 rfl 0 rfl ?_
    refine tr_instN Y (sh_recv X hm) (nc_sh (k := 3) (j := 2) (by decide) (by decide) (by decide)) q1216 dX0_length_27 ?_
    refine tw_if_eq (a := ()) (b := ()) (z := ()) (tgt := 39) X dX0_length_30 rfl (ite_self _) (fun _ _ => ?_) (fun z _ => absurd rfl z)
    refine tw_aload_n X dX0_length_39 rfl 0 rfl ?_
    refine tr_instY (k := 3) X hm q1217 dX0_length_40 ?_
    refine tw_if_eq (a := ()) (b := ()) (z := ()) (tgt := 52) X dX0_length_43 rfl (ite_self _) (fun z _ => absurd z (by decide)) (fun _ _ => ?_)
    refine tw_aload_n X dX0_length_46 rfl 0 rfl ?_
    refine tr_castY (k := 3) X hm q1217 dX0_length_47 ?_
    refine tr_len (k := 3) X hm dX0_length_50 ?_
    exact tx_iret X hr (Nat.le_refl _) (Nat.le_refl _) (fun t b => ⟨rfl, b⟩) dX0_length_51
  | 4, _, hm =>
    refine tw_aload_n X dX0_length_0 rfl 0 rfl ?_
    refine tr_instN Y (sh_recv X hm) (nc_sh (k := 4) (j := 0) (by decide) (by decide) (by decide)) q1214 dX0_length_1 ?_
    refine tw_if_eq (a := ()) (b := ()) (z := ()) (tgt := 13) X dX0_length_4 rfl (ite_self _) (fun _ _ => ?_) (fun z _ => absurd rfl z)
    refine tw_aload_n X dX0_length_13 rfl 0 rfl ?_
    refine tr_instN Y (sh_recv X hm) (nc_sh (k := 4) (j := 1) (by decide) (by decide) (by decide)) q1215 dX0_length_14 ?_
    refine tw_if_eq (a := ()) (b := ()) (z := ()) (tgt := 26) X dX0_length_17 rfl (ite_self _) (fun _ _ => ?_) (fun z _ => absurd rfl z)
    refine tw_aload_n X dX0_length_26 rfl 0 rfl ?_
    refine tr_instN Y (sh_recv X hm) (nc_sh (k := 4) (j := 2) (by decide) (by decide) (by decide)) q1216 dX0_length_27 ?_
    refine tw_if_eq (a := ()) (b := ()) (z := ()) (tgt := 39) X dX0_length_30 rfl (ite_self _) (fun _ _ => ?_) (fun z _ => absurd rfl z)
    refine tw_aload_n X dX0_length_39 rfl 0 rfl ?_
    refine tr_instN Y (sh_recv X hm) (nc_sh (k := 4) (j := 3) (by decide) (by decide) (by decide)) q1217 dX0_length_40 ?_
    refine tw_if_eq (a := ()) (b := ()) (z := ()) (tgt := 52) X dX0_length_43 rfl (ite_self _) (fun _ _ => ?_) (fun z _ => absurd rfl z)
    refine tw_aload_n X dX0_length_52 rfl 0 rfl ?_
    refine tr_castY (k := 4) X hm q1218 dX0_length_53 ?_
    refine tr_len (k := 4) X hm dX0_length_56 ?_
    exact tx_iret X hr (Nat.le_refl _) (Nat.le_refl _) (fun t b => ⟨rfl, b⟩) dX0_length_57
theorem updL_i (f : Nat → Int32) (j : Nat) (v : Int32) : vp_updL (fun i => (f i).toInt64) j v.toInt64 = fun i => (upd f j v i).toInt64 := by
  funext i
  show (if i = j then v.toInt64 else (f i).toInt64) = (if i = j then v else f i).toInt64
  split <;> rfl
theorem nar_z (v : Int32) : vp_nar .boolean (if v = 0 then 0 else 1) = (if v = 0 then 0 else 1 : Int32) := by
  split
  · decide
  · decide
theorem tr_st0 (X : Cx p c cc nL s args own m meth D vwCl (kT δ) A) {q j N : Nat} {f : Nat → Int32} {v : Int32} (hj : j < N) (hN : N < 2 ^ 20) (hdg : decode cc pc = .ok (.bastore, 1)) (kk : TW p l e0 R s m args below meth c Q D vwCl A (kW K δ sr ρ (d1 ++ (q, shE δ 0 N (upd f j (shNar 0 v))) :: d2)) nL ce sl g (pc + 1) lv st) : TW p l e0 R s m args below meth c Q D vwCl A (kW K δ sr ρ (d1 ++ (q, shE δ 0 N f) :: d2)) nL ce sl g pc lv (.int v.toInt8.toInt32 :: .int (nI j) :: .ref q :: st) := by
  intro H locs ls hl hP hD hS
  refine va_bast X.hx X.hb X.hK hP hD hS (d1.length + 68) 1 (kW_m (q, shE δ 0 N f)) rfl (vp_in_nI hj (by omega)) hdg (fun H1 locs1 hP1 hD1 hS1 => ?_)
  rw [nI_clamp (by omega), kW_ms, pk_vb] at hP1 hD1
  exact kk H1 locs1 ls hl hP1 hD1 hS1
theorem tr_st1 (X : Cx p c cc nL s args own m meth D vwCl (kT δ) A) {q j N : Nat} {f : Nat → Int32} {v : Int32} (hj : j < N) (hN : N < 2 ^ 20) (hdg : decode cc pc = .ok (.sastore, 1)) (kk : TW p l e0 R s m args below meth c Q D vwCl A (kW K δ sr ρ (d1 ++ (q, shE δ 1 N (upd f j (shNar 1 v))) :: d2)) nL ce sl g (pc + 1) lv st) : TW p l e0 R s m args below meth c Q D vwCl A (kW K δ sr ρ (d1 ++ (q, shE δ 1 N f) :: d2)) nL ce sl g pc lv (.int v.toInt16.toInt32 :: .int (nI j) :: .ref q :: st) := by
  intro H locs ls hl hP hD hS
  refine va_sast X.hx X.hb X.hK hP hD hS (d1.length + 68) 6 (kW_m (q, shE δ 1 N f)) rfl (vp_in_nI hj (by omega)) hdg (fun H1 locs1 hP1 hD1 hS1 => ?_)
  rw [nI_clamp (by omega), kW_ms, pk_vs] at hP1 hD1
  exact kk H1 locs1 ls hl hP1 hD1 hS1
theorem tr_st2 (X : Cx p c cc nL s args own m meth D vwCl (kT δ) A) {q j N : Nat} {f : Nat → Int32} {v : Int32} (hj : j < N) (hN : N < 2 ^ 20) (hdg : decode cc pc = .ok (.iastore, 1)) (kk : TW p l e0 R s m args below meth c Q D vwCl A (kW K δ sr ρ (d1 ++ (q, shE δ 2 N (upd f j (shNar 2 v))) :: d2)) nL ce sl g (pc + 1) lv st) : TW p l e0 R s m args below meth c Q D vwCl A (kW K δ sr ρ (d1 ++ (q, shE δ 2 N f) :: d2)) nL ce sl g pc lv (.int v :: .int (nI j) :: .ref q :: st) := by
  intro H locs ls hl hP hD hS
  refine va_iast X.hx X.hb X.hK hP hD hS (d1.length + 68) 0 (kW_m (q, shE δ 2 N f)) rfl (vp_in_nI hj (by omega)) hdg (fun H1 locs1 hP1 hD1 hS1 => ?_)
  rw [nI_clamp (by omega), kW_ms] at hP1 hD1
  exact kk H1 locs1 ls hl hP1 hD1 hS1
theorem tr_st3 (X : Cx p c cc nL s args own m meth D vwCl (kT δ) A) {q j N : Nat} {f : Nat → Int32} {v : Int32} (hj : j < N) (hN : N < 2 ^ 20) (hdg : decode cc pc = .ok (.lastore, 1)) (kk : TW p l e0 R s m args below meth c Q D vwCl A (kW K δ sr ρ (d1 ++ (q, shE δ 3 N (upd f j (shNar 3 v))) :: d2)) nL ce sl g (pc + 1) lv st) : TW p l e0 R s m args below meth c Q D vwCl A (kW K δ sr ρ (d1 ++ (q, shE δ 3 N f) :: d2)) nL ce sl g pc lv (.long v.toInt64 :: .int (nI j) :: .ref q :: st) := by
  intro H locs ls hl hP hD hS
  refine va_last X.hx X.hb X.hK hP hD hS (d1.length + 68) 7 (kW_m (q, shE δ 3 N f)) rfl (vp_in_nI hj (by omega)) hdg (fun H1 locs1 hP1 hD1 hS1 => ?_)
  rw [nI_clamp (by omega), kW_ms, updL_i] at hP1 hD1
  exact kk H1 locs1 ls hl hP1 hD1 hS1
theorem tr_st4 (X : Cx p c cc nL s args own m meth D vwCl (kT δ) A) {q j N : Nat} {f : Nat → Int32} {v : Int32} (hj : j < N) (hN : N < 2 ^ 20) (hdg : decode cc pc = .ok (.bastore, 1)) (kk : TW p l e0 R s m args below meth c Q D vwCl A (kW K δ sr ρ (d1 ++ (q, shE δ 4 N (upd f j (shNar 4 v))) :: d2)) nL ce sl g (pc + 1) lv st) : TW p l e0 R s m args below meth c Q D vwCl A (kW K δ sr ρ (d1 ++ (q, shE δ 4 N f) :: d2)) nL ce sl g pc lv (.int (if v = 0 then 0 else 1) :: .int (nI j) :: .ref q :: st) := by
  intro H locs ls hl hP hD hS
  refine va_zast X.hx X.hb X.hK hP hD hS (d1.length + 68) 8 (kW_m (q, shE δ 4 N f)) rfl (vp_in_nI hj (by omega)) hdg (fun H1 locs1 hP1 hD1 hS1 => ?_)
  rw [nI_clamp (by omega), kW_ms, nar_z] at hP1 hD1
  exact kk H1 locs1 ls hl hP1 hD1 hS1
theorem kx_set {q k N j : Nat} {f : Nat → Int32} (v : Int32) (hk : k < 5) (hj : j < N) (hN : N < 2 ^ 20) : CX l yX0_set cX0_set 3 none 0 0 0 0 D vwCl (kT δ) A aK aV (kW K δ sr ρ (d1 ++ (q, shE δ k N f) :: d2)) [.ref q, .int (nI j), .int v] g (fun w t => w = none ∧ BW D vwCl A (kW K δ sr ρ (d1 ++ (q, shE δ k N (upd f j (shNar k v))) :: d2)) g t) (fun _ _ _ => False) := by
  refine cx_intro (own := RX0) (lv0 := [(0, .ref q), (1, .int (nI j)), (2, .int v)]) (by decide) rfl (Nat.le_of_ble_eq_true rfl) rfl ?_
  intro p e s m args below meth c Y hr hmn htab
  have X := Y.x
  match k, hk with
  | 0, _ =>
    have hm : (q, shE δ 0 N f) ∈ d1 ++ (q, shE δ 0 N f) :: d2 := by simp
    refine tw_aload_n X dX0_set_0 rfl 0 rfl ?_
    refine tr_instY (k := 0) X hm q1214 dX0_set_1 ?_
    refine tw_if_eq (a := ()) (b := ()) (z := ()) (tgt := 18) X dX0_set_4 rfl (ite_self _) (fun z _ => absurd z (by decide)) (fun _ _ => ?_)
    refine tw_aload_n X dX0_set_7 rfl 0 rfl ?_
    refine tr_castY (k := 0) X hm q1214 dX0_set_8 ?_
    refine tw_iload_n X dX0_set_11 rfl 1 rfl ?_
    refine tw_iload_n X dX0_set_12 rfl 2 rfl ?_
    refine tw_i2b X dX0_set_13 ?_
    refine tr_st0 X hj hN dX0_set_14 ?_
    refine tw_goto (tgt := 86) X dX0_set_15 rfl ?_
    exact tx_vret X hr (Nat.le_refl _) (Nat.le_refl _) (fun t b => ⟨rfl, b⟩) dX0_set_86
  | 1, _ =>
    have hm : (q, shE δ 1 N f) ∈ d1 ++ (q, shE δ 1 N f) :: d2 := by simp
    refine tw_aload_n X dX0_set_0 rfl 0 rfl ?_
    refine tr_instN Y (sh_recv (k := 1) X hm) (nc_sh (k := 1) (j := 0) (by decide) (by decide) (by decide)) q1214 dX0_set_1 ?_
    refine tw_if_eq (a := ()) (b := ()) (z := ()) (tgt := 18) X dX0_set_4 rfl (ite_self _) (fun _ _ => ?_) (fun z _ => absurd rfl z)
    refine tw_aload_n X dX0_set_18 rfl 0 rfl ?_
    refine tr_instY (k := 1) X hm q1215 dX0_set_19 ?_
    refine tw_if_eq (a := ()) (b := ()) (z := ()) (tgt := 36) X dX0_set_22 rfl (ite_self _) (fun z _ => absurd z (by decide)) (fun _ _ => ?_)
    refine tw_aload_n X dX0_set_25 rfl 0 rfl ?_
    refine tr_castY (k := 1) X hm q1215 dX0_set_26 ?_
    refine tw_iload_n X dX0_set_29 rfl 1 rfl ?_
    refine tw_iload_n X dX0_set_30 rfl 2 rfl ?_
    refine tw_i2s X dX0_set_31 ?_
    refine tr_st1 X hj hN dX0_set_32 ?_
    refine tw_goto (tgt := 86) X dX0_set_33 rfl ?_
    exact tx_vret X hr (Nat.le_refl _) (Nat.le_refl _) (fun t b => ⟨rfl, b⟩) dX0_set_86
  | 2, _ =>
    have hm : (q, shE δ 2 N f) ∈ d1 ++ (q, shE δ 2 N f) :: d2 := by simp
    refine tw_aload_n X dX0_set_0 rfl 0 rfl ?_
    refine tr_instN Y (sh_recv (k := 2) X hm) (nc_sh (k := 2) (j := 0) (by decide) (by decide) (by decide)) q1214 dX0_set_1 ?_
    refine tw_if_eq (a := ()) (b := ()) (z := ()) (tgt := 18) X dX0_set_4 rfl (ite_self _) (fun _ _ => ?_) (fun z _ => absurd rfl z)
    refine tw_aload_n X dX0_set_18 rfl 0 rfl ?_
    refine tr_instN Y (sh_recv (k := 2) X hm) (nc_sh (k := 2) (j := 1) (by decide) (by decide) (by decide)) q1215 dX0_set_19 ?_
    refine tw_if_eq (a := ()) (b := ()) (z := ()) (tgt := 36) X dX0_set_22 rfl (ite_self _) (fun _ _ => ?_) (fun z _ => absurd rfl z)
    refine tw_aload_n X dX0_set_36 rfl 0 rfl ?_
    refine tr_instY (k := 2) X hm q1216 dX0_set_37 ?_
    refine tw_if_eq (a := ()) (b := ()) (z := ()) (tgt := 53) X dX0_set_40 rfl (ite_self _) (fun z _ => absurd z (by decide)) (fun _ _ => ?_)
    refine tw_aload_n X dX0_set_43 rfl 0 rfl ?_
    refine tr_castY (k := 2) X hm q1216 dX0_set_44 ?_
    refine tw_iload_n X dX0_set_47 rfl 1 rfl ?_
    refine tw_iload_n X dX0_set_48 rfl 2 rfl ?_
    refine tr_st2 X hj hN dX0_set_49 ?_
    refine tw_goto (tgt := 86) X dX0_set_50 rfl ?_
    exact tx_vret X hr (Nat.le_refl _) (Nat.le_refl _) (fun t b => ⟨rfl, b⟩) dX0_set_86
  | 3, _ =>
    have hm : (q, shE δ 3 N f) ∈ d1 ++ (q, shE δ 3 N f) :: d2 := by simp
    refine tw_aload_n X dX0_set_0 rfl 0 rfl ?_
    refine tr_instN Y (sh_recv (k := 3) X hm) (nc_sh (k := 3) (j := 0) (by decide) (by decide) (by decide)) q1214 dX0_set_1 ?_
    refine tw_if_eq (a := ()) (b := ()) (z := ()) (tgt := 18) X dX0_set_4 rfl (ite_self _) (fun _ _ => ?_) (fun z _ => absurd rfl z)
    refine tw_aload_n X dX0_set_18 rfl 0 rfl ?_
    refine tr_instN Y (sh_recv (k := 3) X hm) (nc_sh (k := 3) (j := 1) (by decide) (by decide) (by decide)) q1215 dX0_set_19 ?_
    refine tw_if_eq (a := ()) (b := ()) (z := ()) (tgt := 36) X dX0_set_22 rfl (ite_self _) (fun _ _ => ?_) (fun z _ => absurd rfl z)
    refine tw_aload_n X dX0_set_36 rfl 0 rfl ?_
    refine tr_instN Y (sh_recv (k := 3) X hm) (nc_sh (k := 3) (j := 2) (by decide) (by decide) (by decide)) q1216 dX0_set_37 ?_
    refine tw_if_eq (a := ()) (b := ()) (z := ()) (tgt := 53) X dX0_set_40 rfl (ite_self _) (fun _ _ => ?_) (fun z _ => absurd rfl z)
    refine tw_aload_n X dX0_set_53 rfl 0 rfl ?_
    refine tr_instY (k := 3) X hm q1217 dX0_set_54 ?_
    refine tw_if_eq (a := ()) (b := ()) (z := ()) (tgt := 71) X dX0_set_57 rfl (ite_self _) (fun z _ => absurd z (by decide)) (fun _ _ => ?_)
    refine tw_aload_n X dX0_set_60 rfl 0 rfl ?_
    refine tr_castY (k := 3) X hm q1217 dX0_set_61 ?_
    refine tw_iload_n X dX0_set_64 rfl 1 rfl ?_
    refine tw_iload_n X dX0_set_65 rfl 2 rfl ?_
    refine tw_i2l X dX0_set_66 ?_
    refine tr_st3 X hj hN dX0_set_67 ?_
    refine tw_goto (tgt := 86) X dX0_set_68 rfl ?_
    exact tx_vret X hr (Nat.le_refl _) (Nat.le_refl _) (fun t b => ⟨rfl, b⟩) dX0_set_86
  | 4, _ =>
    have hm : (q, shE δ 4 N f) ∈ d1 ++ (q, shE δ 4 N f) :: d2 := by simp
    refine tw_aload_n X dX0_set_0 rfl 0 rfl ?_
    refine tr_instN Y (sh_recv (k := 4) X hm) (nc_sh (k := 4) (j := 0) (by decide) (by decide) (by decide)) q1214 dX0_set_1 ?_
    refine tw_if_eq (a := ()) (b := ()) (z := ()) (tgt := 18) X dX0_set_4 rfl (ite_self _) (fun _ _ => ?_) (fun z _ => absurd rfl z)
    refine tw_aload_n X dX0_set_18 rfl 0 rfl ?_
    refine tr_instN Y (sh_recv (k := 4) X hm) (nc_sh (k := 4) (j := 1) (by decide) (by decide) (by decide)) q1215 dX0_set_19 ?_
    refine tw_if_eq (a := ()) (b := ()) (z := ()) (tgt := 36) X dX0_set_22 rfl (ite_self _) (fun _ _ => ?_) (fun z _ => absurd rfl z)
    refine tw_aload_n X dX0_set_36 rfl 0 rfl ?_
    refine tr_instN Y (sh_recv (k := 4) X hm) (nc_sh (k := 4) (j := 2) (by decide) (by decide) (by decide)) q1216 dX0_set_37 ?_
    refine tw_if_eq (a := ()) (b := ()) (z := ()) (tgt := 53) X dX0_set_40 rfl (ite_self _) (fun _ _ => ?_) (fun z _ => absurd rfl z)
    refine tw_aload_n X dX0_set_53 rfl 0 rfl ?_
    refine tr_instN Y (sh_recv (k := 4) X hm) (nc_sh (k := 4) (j := 3) (by decide) (by decide) (by decide)) q1217 dX0_set_54 ?_
    refine tw_if_eq (a := ()) (b := ()) (z := ()) (tgt := 71) X dX0_set_57 rfl (ite_self _) (fun _ _ => ?_) (fun z _ => absurd rfl z)
    refine tw_aload_n X dX0_set_71 rfl 0 rfl ?_
    refine tr_castY (k := 4) X hm q1218 dX0_set_72 ?_
    refine tw_iload_n X dX0_set_75 rfl 1 rfl ?_
    refine tw_iload_n X dX0_set_76 rfl 2 rfl ?_
    refine tw_if_eq (a := ()) (b := ()) (z := ()) (tgt := 84) X dX0_set_77 rfl (ite_self _) (fun z _ => ?_) (fun z _ => ?_)
    · refine tw_iconst (v := if v = 0 then 0 else 1) X dX0_set_84 (by rw [if_pos z]; rfl) ?_
      refine tr_st4 X hj hN dX0_set_85 ?_
      exact tx_vret X hr (Nat.le_refl _) (Nat.le_refl _) (fun t b => ⟨rfl, b⟩) dX0_set_86
    · refine tw_iconst (v := if v = 0 then 0 else 1) X dX0_set_80 (by rw [if_neg z]; rfl) ?_
      refine tw_goto (tgt := 85) X dX0_set_81 rfl ?_
      refine tr_st4 X hj hN dX0_set_85 ?_
      exact tx_vret X hr (Nat.le_refl _) (Nat.le_refl _) (fun t b => ⟨rfl, b⟩) dX0_set_86
theorem kx_manyOf (hl : l.stackTraces = false) {v : Value} {so : Nat} {r : Nat ⊕ Nat} (hk : so < 5) (hv : RVs δ dy v so r) : CX l yX0_manyOf cX0_manyOf 2 (some .int) 8 10260 3 1010 D vwCl (kT δ) A aK aV (kW K δ sr ρ dy) [v, .int (nI so)] g (fun w t => ∃ N, r = .inl N ∧ w = some (.int (nI N)) ∧ BW D vwCl A (kW K δ sr ρ dy) g t) (fun q E t => ∃ w, r = .inr w ∧ HX D A K δ sr ρ dy g w 0 q E t) := by
  have hv1 : lv_args 0 [v, .int (nI so)] = [(0, v), (1, .int (nI so))] ∧ (lg_sl [v, .int (nI so)]).length ≤ 2 := by
    rcases hv with ⟨q, N, f, rfl, _⟩ | ⟨q, k', N, f, rfl, _⟩ | ⟨q, kd, fs, rfl, _⟩ | ⟨rfl, _⟩ <;> exact ⟨rfl, Nat.le_of_ble_eq_true rfl⟩
  refine cx_intro (own := RX0) (lv0 := [(0, v), (1, .int (nI so))]) (by decide) rfl hv1.2 hv1.1 ?_
  intro p e s m args below meth c Y hr hmn htab
  have X := Y.x
  refine tw_iload_n X dX0_manyOf_0 rfl 1 rfl ?_
  match so, hk with
  | 0, _ =>
    refine tw_tableIn (off := 31) (tgt := 32) X dX0_manyOf_1 (v := nI 0) rfl (by decide) (by decide) rfl rfl ?_
    rcases hv with ⟨q, N, f, rfl, hm, hN, rfl⟩ | ⟨q, k', N, f, rfl, hk', hne, hm, rfl⟩ | ⟨q, kd, fs, rfl, h1, h5, hm, rfl⟩ | ⟨rfl, rfl⟩
    · refine tw_aload_n X dX0_manyOf_32 rfl 0 rfl ?_
      refine tr_castY (k := 0) X hm q1214 dX0_manyOf_33 ?_
      refine tr_len (k := 0) X hm dX0_manyOf_36 ?_
      exact tx_iret X hr (Nat.zero_le _) (Nat.zero_le _) (fun t b => ⟨N, rfl, rfl, b⟩) dX0_manyOf_37
    · refine tw_aload_n X dX0_manyOf_32 rfl 0 rfl ?_
      exact tx_castN (C := shN k') (nm := shN 0) Y hl q1214 (nc_sh hk' (by decide) hne) ⟨(pk_sh k' hk').1, (pk_sh 0 (by decide)).1, (pk_sh k' hk').2, (pk_sh 0 (by decide)).2⟩ (sh_recv X hm) ⟨Nat.le_of_ble_eq_true rfl, Nat.le_of_ble_eq_true rfl⟩ ⟨Nat.le_of_ble_eq_true rfl, Nat.le_of_ble_eq_true rfl⟩ (Nat.zero_le _) dX0_manyOf_33 (fun t q b => tx_out X htab (Nat.le_refl _) (Nat.le_refl _) (fun t2 e2 => ⟨0, rfl, Or.inl ⟨rfl, rfl, by rw [e2]; exact b.1, b.2⟩⟩))
    · refine tw_aload_n X dX0_manyOf_32 rfl 0 rfl ?_
      exact tx_castN (C := pN kd) (nm := shN 0) Y hl q1214 (nc_ps h1 h5 (by decide)) ⟨(pk_ps kd (by omega)).1, (pk_sh 0 (by decide)).1, (pk_ps kd (by omega)).2, (pk_sh 0 (by decide)).2⟩ (ps_recv X h1 h5 hm) ⟨Nat.le_of_ble_eq_true rfl, Nat.le_of_ble_eq_true rfl⟩ ⟨Nat.le_of_ble_eq_true rfl, Nat.le_of_ble_eq_true rfl⟩ (Nat.zero_le _) dX0_manyOf_33 (fun t q b => tx_out X htab (Nat.le_refl _) (Nat.le_refl _) (fun t2 e2 => ⟨0, rfl, Or.inl ⟨rfl, rfl, by rw [e2]; exact b.1, b.2⟩⟩))
    · refine tw_aload_nN X dX0_manyOf_32 rfl 0 rfl ?_
      refine tr_castNull X dX0_manyOf_33 ?_
      refine tx_widen (k := 2) (n := 1002) (Nat.zero_le _) (Nat.zero_le _) ?_
      exact tx_alenN Y hl ⟨Nat.le_of_ble_eq_true rfl, Nat.le_of_ble_eq_true rfl⟩ ⟨Nat.le_of_ble_eq_true rfl, Nat.le_of_ble_eq_true rfl⟩ (Nat.zero_le _) dX0_manyOf_36 (fun t q b => tx_out X htab (Nat.le_refl _) (Nat.le_refl _) (fun t2 e2 => ⟨1, rfl, Or.inr (Or.inl ⟨rfl, rfl, by rw [e2]; exact b.1, b.2⟩)⟩))
  | 1, _ =>
    refine tw_tableIn (off := 37) (tgt := 38) X dX0_manyOf_1 (v := nI 1) rfl (by decide) (by decide) rfl rfl ?_
    rcases hv with ⟨q, N, f, rfl, hm, hN, rfl⟩ | ⟨q, k', N, f, rfl, hk', hne, hm, rfl⟩ | ⟨q, kd, fs, rfl, h1, h5, hm, rfl⟩ | ⟨rfl, rfl⟩
    · refine tw_aload_n X dX0_manyOf_38 rfl 0 rfl ?_
      refine tr_castY (k := 1) X hm q1215 dX0_manyOf_39 ?_
      refine tr_len (k := 1) X hm dX0_manyOf_42 ?_
      exact tx_iret X hr (Nat.zero_le _) (Nat.zero_le _) (fun t b => ⟨N, rfl, rfl, b⟩) dX0_manyOf_43
    · refine tw_aload_n X dX0_manyOf_38 rfl 0 rfl ?_
      exact tx_castN (C := shN k') (nm := shN 1) Y hl q1215 (nc_sh hk' (by decide) hne) ⟨(pk_sh k' hk').1, (pk_sh 1 (by decide)).1, (pk_sh k' hk').2, (pk_sh 1 (by decide)).2⟩ (sh_recv X hm) ⟨Nat.le_of_ble_eq_true rfl, Nat.le_of_ble_eq_true rfl⟩ ⟨Nat.le_of_ble_eq_true rfl, Nat.le_of_ble_eq_true rfl⟩ (Nat.zero_le _) dX0_manyOf_39 (fun t q b => tx_out X htab (Nat.le_refl _) (Nat.le_refl _) (fun t2 e2 => ⟨0, rfl, Or.inl ⟨rfl, rfl, by rw [e2]; exact b.1, b.2⟩⟩))
    · refine tw_aload_n X dX0_manyOf_38 rfl 0 rfl ?_
      exact tx_castN (C := pN kd) (nm := shN 1) Y hl q1215 (nc_ps h1 h5 (by decide)) ⟨(pk_ps kd (by omega)).1, (pk_sh 1 (by decide)).1, (pk_ps kd (by omega)).2, (pk_sh 1 (by decide)).2⟩ (ps_recv X h1 h5 hm) ⟨Nat.le_of_ble_eq_true rfl, Nat.le_of_ble_eq_true rfl⟩ ⟨Nat.le_of_ble_eq_true rfl, Nat.le_of_ble_eq_true rfl⟩ (Nat.zero_le _) dX0_manyOf_39 (fun t q b => tx_out X htab (Nat.le_refl _) (Nat.le_refl _) (fun t2 e2 => ⟨0, rfl, Or.inl ⟨rfl, rfl, by rw [e2]; exact b.1, b.2⟩⟩))
    · refine tw_aload_nN X dX0_manyOf_38 rfl 0 rfl ?_
      refine tr_castNull X dX0_manyOf_39 ?_
      refine tx_widen (k := 2) (n := 1002) (Nat.zero_le _) (Nat.zero_le _) ?_
      exact tx_alenN Y hl ⟨Nat.le_of_ble_eq_true rfl, Nat.le_of_ble_eq_true rfl⟩ ⟨Nat.le_of_ble_eq_true rfl, Nat.le_of_ble_eq_true rfl⟩ (Nat.zero_le _) dX0_manyOf_42 (fun t q b => tx_out X htab (Nat.le_refl _) (Nat.le_refl _) (fun t2 e2 => ⟨1, rfl, Or.inr (Or.inl ⟨rfl, rfl, by rw [e2]; exact b.1, b.2⟩)⟩))
  | 2, _ =>
    refine tw_tableIn (off := 43) (tgt := 44) X dX0_manyOf_1 (v := nI 2) rfl (by decide) (by decide) rfl rfl ?_
    rcases hv with ⟨q, N, f, rfl, hm, hN, rfl⟩ | ⟨q, k', N, f, rfl, hk', hne, hm, rfl⟩ | ⟨q, kd, fs, rfl, h1, h5, hm, rfl⟩ | ⟨rfl, rfl⟩
    · refine tw_aload_n X dX0_manyOf_44 rfl 0 rfl ?_
      refine tr_castY (k := 2) X hm q1216 dX0_manyOf_45 ?_
      refine tr_len (k := 2) X hm dX0_manyOf_48 ?_
      exact tx_iret X hr (Nat.zero_le _) (Nat.zero_le _) (fun t b => ⟨N, rfl, rfl, b⟩) dX0_manyOf_49
    · refine tw_aload_n X dX0_manyOf_44 rfl 0 rfl ?_
      exact tx_castN (C := shN k') (nm := shN 2) Y hl q1216 (nc_sh hk' (by decide) hne) ⟨(pk_sh k' hk').1, (pk_sh 2 (by decide)).1, (pk_sh k' hk').2, (pk_sh 2 (by decide)).2⟩ (sh_recv X hm) ⟨Nat.le_of_ble_eq_true rfl, Nat.le_of_ble_eq_true rfl⟩ ⟨Nat.le_of_ble_eq_true rfl, Nat.le_of_ble_eq_true rfl⟩ (Nat.zero_le _) dX0_manyOf_45 (fun t q b => tx_out X htab (Nat.le_refl _) (Nat.le_refl _) (fun t2 e2 => ⟨0, rfl, Or.inl ⟨rfl, rfl, by rw [e2]; exact b.1, b.2⟩⟩))
    · refine tw_aload_n X dX0_manyOf_44 rfl 0 rfl ?_
      exact tx_castN (C := pN kd) (nm := shN 2) Y hl q1216 (nc_ps h1 h5 (by decide)) ⟨(pk_ps kd (by omega)).1, (pk_sh 2 (by decide)).1, (pk_ps kd (by omega)).2, (pk_sh 2 (by decide)).2⟩ (ps_recv X h1 h5 hm) ⟨Nat.le_of_ble_eq_true rfl, Nat.le_of_ble_eq_true rfl⟩ ⟨Nat.le_of_ble_eq_true rfl, Nat.le_of_ble_eq_true rfl⟩ (Nat.zero_le _) dX0_manyOf_45 (fun t q b => tx_out X htab (Nat.le_refl _) (Nat.le_refl _) (fun t2 e2 => ⟨0, rfl, Or.inl ⟨rfl, rfl, by rw [e2]; exact b.1, b.2⟩⟩))
    · refine tw_aload_nN X dX0_manyOf_44 rfl 0 rfl ?_
      refine tr_castNull X dX0_manyOf_45 ?_
      refine tx_widen (k := 2) (n := 1002) (Nat.zero_le _) (Nat.zero_le _) ?_
      exact tx_alenN Y hl ⟨Nat.le_of_ble_eq_true rfl, Nat.le_of_ble_eq_true rfl⟩ ⟨Nat.le_of_ble_eq_true rfl, Nat.le_of_ble_eq_true rfl⟩ (Nat.zero_le _) dX0_manyOf_48 (fun t q b => tx_out X htab (Nat.le_refl _) (Nat.le_refl _) (fun t2 e2 => ⟨1, rfl, Or.inr (Or.inl ⟨rfl, rfl, by rw [e2]; exact b.1, b.2⟩)⟩))
  | 3, _ =>
    refine tw_tableIn (off := 49) (tgt := 50) X dX0_manyOf_1 (v := nI 3) rfl (by decide) (by decide) rfl rfl ?_
    rcases hv with ⟨q, N, f, rfl, hm, hN, rfl⟩ | ⟨q, k', N, f, rfl, hk', hne, hm, rfl⟩ | ⟨q, kd, fs, rfl, h1, h5, hm, rfl⟩ | ⟨rfl, rfl⟩
    · refine tw_aload_n X dX0_manyOf_50 rfl 0 rfl ?_
      refine tr_castY (k := 3) X hm q1217 dX0_manyOf_51 ?_
      refine tr_len (k := 3) X hm dX0_manyOf_54 ?_
      exact tx_iret X hr (Nat.zero_le _) (Nat.zero_le _) (fun t b => ⟨N, rfl, rfl, b⟩) dX0_manyOf_55
    · refine tw_aload_n X dX0_manyOf_50 rfl 0 rfl ?_
      exact tx_castN (C := shN k') (nm := shN 3) Y hl q1217 (nc_sh hk' (by decide) hne) ⟨(pk_sh k' hk').1, (pk_sh 3 (by decide)).1, (pk_sh k' hk').2, (pk_sh 3 (by decide)).2⟩ (sh_recv X hm) ⟨Nat.le_of_ble_eq_true rfl, Nat.le_of_ble_eq_true rfl⟩ ⟨Nat.le_of_ble_eq_true rfl, Nat.le_of_ble_eq_true rfl⟩ (Nat.zero_le _) dX0_manyOf_51 (fun t q b => tx_out X htab (Nat.le_refl _) (Nat.le_refl _) (fun t2 e2 => ⟨0, rfl, Or.inl ⟨rfl, rfl, by rw [e2]; exact b.1, b.2⟩⟩))
    · refine tw_aload_n X dX0_manyOf_50 rfl 0 rfl ?_
      exact tx_castN (C := pN kd) (nm := shN 3) Y hl q1217 (nc_ps h1 h5 (by decide)) ⟨(pk_ps kd (by omega)).1, (pk_sh 3 (by decide)).1, (pk_ps kd (by omega)).2, (pk_sh 3 (by decide)).2⟩ (ps_recv X h1 h5 hm) ⟨Nat.le_of_ble_eq_true rfl, Nat.le_of_ble_eq_true rfl⟩ ⟨Nat.le_of_ble_eq_true rfl, Nat.le_of_ble_eq_true rfl⟩ (Nat.zero_le _) dX0_manyOf_51 (fun t q b => tx_out X htab (Nat.le_refl _) (Nat.le_refl _) (fun t2 e2 => ⟨0, rfl, Or.inl ⟨rfl, rfl, by rw [e2]; exact b.1, b.2⟩⟩))
    · refine tw_aload_nN X dX0_manyOf_50 rfl 0 rfl ?_
      refine tr_castNull X dX0_manyOf_51 ?_
      refine tx_widen (k := 2) (n := 1002) (Nat.zero_le _) (Nat.zero_le _) ?_
      exact tx_alenN Y hl ⟨Nat.le_of_ble_eq_true rfl, Nat.le_of_ble_eq_true rfl⟩ ⟨Nat.le_of_ble_eq_true rfl, Nat.le_of_ble_eq_true rfl⟩ (Nat.zero_le _) dX0_manyOf_54 (fun t q b => tx_out X htab (Nat.le_refl _) (Nat.le_refl _) (fun t2 e2 => ⟨1, rfl, Or.inr (Or.inl ⟨rfl, rfl, by rw [e2]; exact b.1, b.2⟩)⟩))
  | 4, _ =>
    refine tw_tableOut (tgt := 56) X dX0_manyOf_1 (Or.inr (by decide)) rfl ?_
    rcases hv with ⟨q, N, f, rfl, hm, hN, rfl⟩ | ⟨q, k', N, f, rfl, hk', hne, hm, rfl⟩ | ⟨q, kd, fs, rfl, h1, h5, hm, rfl⟩ | ⟨rfl, rfl⟩
    · refine tw_aload_n X dX0_manyOf_56 rfl 0 rfl ?_
      refine tr_castY (k := 4) X hm q1218 dX0_manyOf_57 ?_
      refine tr_len (k := 4) X hm dX0_manyOf_60 ?_
      exact tx_iret X hr (Nat.zero_le _) (Nat.zero_le _) (fun t b => ⟨N, rfl, rfl, b⟩) dX0_manyOf_61
    · refine tw_aload_n X dX0_manyOf_56 rfl 0 rfl ?_
      exact tx_castN (C := shN k') (nm := shN 4) Y hl q1218 (nc_sh hk' (by decide) hne) ⟨(pk_sh k' hk').1, (pk_sh 4 (by decide)).1, (pk_sh k' hk').2, (pk_sh 4 (by decide)).2⟩ (sh_recv X hm) ⟨Nat.le_of_ble_eq_true rfl, Nat.le_of_ble_eq_true rfl⟩ ⟨Nat.le_of_ble_eq_true rfl, Nat.le_of_ble_eq_true rfl⟩ (Nat.zero_le _) dX0_manyOf_57 (fun t q b => tx_out X htab (Nat.le_refl _) (Nat.le_refl _) (fun t2 e2 => ⟨0, rfl, Or.inl ⟨rfl, rfl, by rw [e2]; exact b.1, b.2⟩⟩))
    · refine tw_aload_n X dX0_manyOf_56 rfl 0 rfl ?_
      exact tx_castN (C := pN kd) (nm := shN 4) Y hl q1218 (nc_ps h1 h5 (by decide)) ⟨(pk_ps kd (by omega)).1, (pk_sh 4 (by decide)).1, (pk_ps kd (by omega)).2, (pk_sh 4 (by decide)).2⟩ (ps_recv X h1 h5 hm) ⟨Nat.le_of_ble_eq_true rfl, Nat.le_of_ble_eq_true rfl⟩ ⟨Nat.le_of_ble_eq_true rfl, Nat.le_of_ble_eq_true rfl⟩ (Nat.zero_le _) dX0_manyOf_57 (fun t q b => tx_out X htab (Nat.le_refl _) (Nat.le_refl _) (fun t2 e2 => ⟨0, rfl, Or.inl ⟨rfl, rfl, by rw [e2]; exact b.1, b.2⟩⟩))
    · refine tw_aload_nN X dX0_manyOf_56 rfl 0 rfl ?_
      refine tr_castNull X dX0_manyOf_57 ?_
      refine tx_widen (k := 2) (n := 1002) (Nat.zero_le _) (Nat.zero_le _) ?_
      exact tx_alenN Y hl ⟨Nat.le_of_ble_eq_true rfl, Nat.le_of_ble_eq_true rfl⟩ ⟨Nat.le_of_ble_eq_true rfl, Nat.le_of_ble_eq_true rfl⟩ (Nat.zero_le _) dX0_manyOf_60 (fun t q b => tx_out X htab (Nat.le_refl _) (Nat.le_refl _) (fun t2 e2 => ⟨1, rfl, Or.inr (Or.inl ⟨rfl, rfl, by rw [e2]; exact b.1, b.2⟩)⟩))
end KHB
