/-! the host: shelf, held, personAs, takenAs, taken -/
set_option maxRecDepth 100000
def asN (a : Nat) : String := match a with | 0 => "HadForVoice$Person" | 1 => "HadForVoice$Maid" | 2 => "HadForVoice$Miser" | 3 => "HadForVoice$Widow" | 4 => "HadForVoice$Prince" | _ => "HadForVoice$Beast"
/-- a kind is another one, or below it -/
def unK (kd a : Nat) : Bool := a == 0 || a == kd || (a == 2 && kd == 3) || (a == 4 && kd == 5)
theorem nc_un0 : ∀ k, k < 6 → ∀ a, a < 6 → (k == 0 || unK k a || ncL.contains (pN k, asN a)) = true := by decide +kernel
theorem nc_un {k a : Nat} (h1 : 1 ≤ k) (h5 : k ≤ 5) (ha : a < 6) (hu : unK k a = false) : (pN k, asN a) ∈ ncL := by
  have h := nc_un0 k (by omega) a ha
  rw [hu, Bool.or_false, Bool.or_eq_true] at h
  rcases h with h | h
  · have := eq_of_beq h
    omega
  · exact List.contains_iff_mem.mp h
theorem nc_sa0 : ∀ k, k < 5 → ∀ a, a < 6 → ncL.contains (shN k, asN a) = true := by decide +kernel
theorem nc_sa {k a : Nat} (h5 : k < 5) (ha : a < 6) : (shN k, asN a) ∈ ncL := List.contains_iff_mem.mp (nc_sa0 k h5 a ha)
theorem nc_st0 : ∀ k, k < 5 → ncL.contains (shN k, "HadForVoice$Ticket") = true := by decide +kernel
theorem pk_as : ∀ a, a < 6 → packageOf (asN a) = "" ∧ (asN a).toList.length ≤ 20 := by decide +kernel
section KHE
variable {p : Program} {l : Launch} {e0 : Env} {R : Room} {s : State} {m : MethodId} {args : Array Value} {below : List Frame} {meth : Method} {c : Code} {Q : State → Prop} {D : va_G} {A : Nat → Prop} {nL ce sl : Nat} {g : St} {pc : Nat} {lv : List (Nat × Value)} {st : List Value} {cc : ByteArray} {own : String} {K : Nat → Nat} {δ : Nat → ClassId} {sr ρ : Rf} {dy d1 d2 : va_W} {aK aV : Nat → Nat}
theorem tr_instNull (X : Cx p c cc nL s args own m meth D vwCl (kT δ) A) {index : Nat} (hdg : decode cc pc = .ok (.instanceof index, 3)) (kk : TW p l e0 R s m args below meth c Q D vwCl A (kW K δ sr ρ dy) nL ce sl g (pc + 3) lv (.int 0 :: st)) : TW p l e0 R s m args below meth c Q D vwCl A (kW K δ sr ρ dy) nL ce sl g pc lv (.null :: st) := by
  intro H locs ls hl hP hD hS T hT XX
  obtain ⟨t, a1, b1⟩ := kk H locs ls hl hP hD hS T hT XX
  exact ⟨t, XX.instanceofNull X.hx (g := F0 m pc ls (.null :: st)) rfl (rest := st) rfl (by rw [X.hb]; exact hdg) t a1, b1⟩
theorem tr_instS (X : Cx p c cc nL s args own m meth D vwCl (kT δ) A) {C : String} {q index : Nat} (hr : ∀ H : Heap, va_P D vwCl (kW K δ sr ρ dy g) H → ∃ cell : Cell, H[q]? = some cell ∧ cell.vm.isStatics = false ∧ s.vm.findClass C = some cell.cls) (hlink : Cond.classLink own index C ∈ lw_all) (hdg : decode cc pc = .ok (.instanceof index, 3)) (kk : TW p l e0 R s m args below meth c Q D vwCl A (kW K δ sr ρ dy) nL ce sl g (pc + 3) lv (.int 1 :: st)) : TW p l e0 R s m args below meth c Q D vwCl A (kW K δ sr ρ dy) nL ce sl g pc lv (.ref q :: st) := by
  intro H locs ls hl hP hD hS T hT XX
  obtain ⟨cell, h1, h2, h3⟩ := hr H hP
  obtain ⟨vm', X', stp⟩ := XX.instanceofYes X.hx X.hown (X.hts _ hlink) (by rw [hT]; exact h1) h2 h3 (va_asg _ _) (g := F0 m pc ls (.ref q :: st)) rfl rfl (by rw [X.hb]; exact hdg)
  obtain ⟨t, a1, b1⟩ := kk H locs ls hl hP hD hS (T.setVm vm') hT X'
  exact ⟨t, stp t a1, b1⟩
theorem tr_castU (X : Cx p c cc nL s args own m meth D vwCl (kT δ) A) {C nm : String} {q index : Nat} (hr : ∀ H : Heap, va_P D vwCl (kW K δ sr ρ dy g) H → ∃ cell : Cell, H[q]? = some cell ∧ cell.vm.isStatics = false ∧ s.vm.findClass C = some cell.cls) (hc : Cond.castable C nm ∈ nwL) (hlink : Cond.classLink own index nm ∈ lw_all) (hdg : decode cc pc = .ok (.checkcast index, 3)) (kk : TW p l e0 R s m args below meth c Q D vwCl A (kW K δ sr ρ dy) nL ce sl g (pc + 3) lv (.ref q :: st)) : TW p l e0 R s m args below meth c Q D vwCl A (kW K δ sr ρ dy) nL ce sl g pc lv (.ref q :: st) :=
  fun H locs ls hl hP hD hS => va_castY X.hx X.hb X.hown (X.hts _ hlink) (X.hN.1 _ hc) (hr H hP) hdg (kk H locs ls hl hP hD hS)
theorem tr_instU (X : Cx p c cc nL s args own m meth D vwCl (kT δ) A) {C nm : String} {q index : Nat} (hr : ∀ H : Heap, va_P D vwCl (kW K δ sr ρ dy g) H → ∃ cell : Cell, H[q]? = some cell ∧ cell.vm.isStatics = false ∧ s.vm.findClass C = some cell.cls) (hc : Cond.castable C nm ∈ nwL) (hlink : Cond.classLink own index nm ∈ lw_all) (hdg : decode cc pc = .ok (.instanceof index, 3)) (kk : TW p l e0 R s m args below meth c Q D vwCl A (kW K δ sr ρ dy) nL ce sl g (pc + 3) lv (.int 1 :: st)) : TW p l e0 R s m args below meth c Q D vwCl A (kW K δ sr ρ dy) nL ce sl g pc lv (.ref q :: st) :=
  fun H locs ls hl hP hD hS => va_instY X.hx X.hb X.hown (X.hts _ hlink) (X.hN.1 _ hc) (hr H hP) hdg (kk H locs ls hl hP hD hS)
theorem tk_recv (X : Cx p c cc nL s args own m meth D vwCl (kT δ) A) {q : Nat} {fs : List Value} (hm : (q, (.inr (18, fs) : va_E)) ∈ dy) : ∀ H : Heap, va_P D vwCl (kW K δ sr ρ dy g) H → ∃ cell : Cell, H[q]? = some cell ∧ cell.vm.isStatics = false ∧ s.vm.findClass "HadForVoice$Ticket" = some cell.cls := by
  intro H hP
  obtain ⟨q0, he⟩ := kW_dy (K := K) (sr := sr) (ρ := ρ) (δ := δ) (g := g) hm
  exact va_recv (q := ("HadForVoice$Ticket", _, _)) X.hK hP (rfl : vwCl[18]? = some _) he
theorem tp_isPerson (X : Cx p c cc nL s args RX0 m meth D vwCl (kT δ) A) {x : Int32} (hR : 2 ≤ R.frames ∧ 43 ≤ R.locals) (hc : ce ≤ R.cells ∧ sl ≤ R.slots) (hW : (st.map fun v => v.category).sum ≤ 8) (hdg : decode cc pc = .ok (.invokevirtual 185, 3)) (kk : zb (kF_isIn x 0 (g 40 0 - 1)) → TW p l e0 R s m args below meth c Q D vwCl A (kW K δ sr ρ dy) nL ce sl g (pc + 3) lv (.int (kF_isIn x 0 (g 40 0 - 1)) :: st)) : TW p l e0 R s m args below meth c Q D vwCl A (kW K δ sr ρ dy) nL ce sl g pc lv (.int x :: .ref (K 0) :: st) :=
  tw_callVz (As := [.int x]) (st := st) X (kC_isPerson rfl) kGX0_185 kI_X0_isPerson ⟨hR.1, hR.2⟩ hc 0 rfl rfl rfl rfl hW hdg kk
theorem kx_shelf_bad {i w n : Int32} (h : kF_isShelf i = 0 ∨ kF_isIn w 0 2 = 0 ∨ (w = 1 ∧ kF_isShelf n = 0) ∨ (w = 0 ∧ kF_isIn n 0 (g 40 0 - 1) = 0)) : CX l yX0_shelf cX0_shelf 4 (some .int) 3 90 1 1 D vwCl (kT δ) A aK aV (kW K δ sr ρ dy) [.ref (K 0), .int i, .int w, .int n] g (SA D A K δ sr ρ dy g (-1)) (fun _ _ _ => False) := by
  refine cx_intro (own := RX0) (lv0 := [(0, .ref (K 0)), (1, .int i), (2, .int w), (3, .int n)]) (by decide) rfl (Nat.le_of_ble_eq_true rfl) rfl ?_
  intro p e s m args below meth c Y hr hmn htab
  have X := Y.x
  have bad : TW p l e (romX 3 90 1 1) s m args below meth c (vx_MQ below (QO A (SA D A K δ sr ρ dy g (-1))) (XO A (fun _ _ _ => False)) args s 1 1 A) D vwCl A (kW K δ sr ρ dy) 4 0 0 g 40 [(0, .ref (K 0)), (1, .int i), (2, .int w), (3, .int n)] [] := by
    refine tw_iconst (v := -1) X dX0_shelf_40 rfl ?_
    exact tx_iret X hr (Nat.zero_le _) (Nat.zero_le _) (fun t b => ⟨rfl, b⟩) dX0_shelf_41
  have last : (w = 1 → ¬ kF_isShelf n = 0) → ¬ kF_isShelf i = 0 → ¬ kF_isIn w 0 2 = 0 → TW p l e (romX 3 90 1 1) s m args below meth c (vx_MQ below (QO A (SA D A K δ sr ρ dy g (-1))) (XO A (fun _ _ _ => False)) args s 1 1 A) D vwCl A (kW K δ sr ρ dy) 4 0 0 g 28 [(0, .ref (K 0)), (1, .int i), (2, .int w), (3, .int n)] [] := by
    intro h1 h2 h3
    have h4 : w = 0 ∧ kF_isIn n 0 (g 40 0 - 1) = 0 := ((h.resolve_left h2).resolve_left h3).resolve_left (fun z => h1 z.1 z.2)
    refine tw_iload_n X dX0_shelf_28 rfl 2 rfl ?_
    refine tw_if_ne (a := ()) (b := ()) (z := ()) (tgt := 42) X dX0_shelf_29 rfl (ite_self _) (fun _ _ => ?_) (fun z _ => absurd h4.1 z)
    refine tw_aload_n X dX0_shelf_32 rfl 0 rfl ?_
    refine tw_iload_n X dX0_shelf_33 rfl 3 rfl ?_
    refine tp_isPerson X ⟨Nat.le_of_ble_eq_true rfl, Nat.le_of_ble_eq_true rfl⟩ ⟨Nat.zero_le _, Nat.zero_le _⟩ (Nat.zero_le _) dX0_shelf_34 (fun _ => ?_)
    refine tw_if_ne (a := ()) (b := ()) (z := ()) (tgt := 42) X dX0_shelf_37 rfl (ite_self _) (fun _ _ => bad) (fun z _ => absurd h4.2 z)
  refine tw_iload_n X dX0_shelf_0 rfl 1 rfl ?_
  refine tp_isShelf X ⟨Nat.le_of_ble_eq_true rfl, Nat.le_of_ble_eq_true rfl⟩ ⟨Nat.zero_le _, Nat.zero_le _⟩ (Nat.zero_le _) dX0_shelf_1 (fun _ => ?_)
  refine tw_if_eq (a := ()) (b := ()) (z := ()) (tgt := 40) X dX0_shelf_4 rfl (ite_self _) (fun _ _ => bad) (fun z1 _ => ?_)
  refine tw_iload_n X dX0_shelf_7 rfl 2 rfl ?_
  refine tw_iconst (v := 0) X dX0_shelf_8 rfl ?_
  refine tw_iconst (v := 2) X dX0_shelf_9 rfl ?_
  refine tp_isIn X ⟨Nat.le_of_ble_eq_true rfl, Nat.le_of_ble_eq_true rfl⟩ ⟨Nat.zero_le _, Nat.zero_le _⟩ (Nat.zero_le _) dX0_shelf_10 (fun _ => ?_)
  refine tw_if_eq (a := ()) (b := ()) (z := ()) (tgt := 40) X dX0_shelf_13 rfl (ite_self _) (fun _ _ => bad) (fun z2 _ => ?_)
  refine tw_iload_n X dX0_shelf_16 rfl 2 rfl ?_
  refine tw_iconst (v := 1) X dX0_shelf_17 rfl ?_
  refine tw_icmp_ne (a := ()) (b := ()) (z := ()) (tgt := 28) X dX0_shelf_18 rfl (ite_self _) (fun z3 _ => ?_) (fun z3 _ => ?_)
  · refine tw_iload_n X dX0_shelf_21 rfl 3 rfl ?_
    refine tp_isShelf X ⟨Nat.le_of_ble_eq_true rfl, Nat.le_of_ble_eq_true rfl⟩ ⟨Nat.zero_le _, Nat.zero_le _⟩ (Nat.zero_le _) dX0_shelf_22 (fun _ => ?_)
    refine tw_if_eq (a := ()) (b := ()) (z := ()) (tgt := 40) X dX0_shelf_25 rfl (ite_self _) (fun _ _ => bad) (fun z4 _ => ?_)
    exact last (fun _ => z4) z1 z2
  · exact last (fun z => absurd z z3) z1 z2
theorem kx_shelf_t {i : Nat} {n : Int32} (hi : i < 4) (hn : ¬ kF_isIn n 0 (g 40 0 - 1) = 0) : CX l yX0_shelf cX0_shelf 4 (some .int) 3 90 1 1 D vwCl (kT δ) A aK aV (kW K δ sr ρ dy) [.ref (K 0), .int (nI i), .int 0, .int n] g (fun v t => ∃ q, SA D A K δ sr (upR ρ 2 i (some q)) (dy ++ [(q, .inr (18, [.int n]))]) g 1 v t) (fun _ _ _ => False) := by
  refine cx_intro (own := RX0) (lv0 := [(0, .ref (K 0)), (1, .int (nI i)), (2, .int 0), (3, .int n)]) (by decide) rfl (Nat.le_of_ble_eq_true rfl) rfl ?_
  intro p e s m args below meth c Y hr hmn htab
  have X := Y.x
  refine tw_iload_n X dX0_shelf_0 rfl 1 rfl ?_
  refine tp_isShelf X ⟨Nat.le_of_ble_eq_true rfl, Nat.le_of_ble_eq_true rfl⟩ ⟨Nat.zero_le _, Nat.zero_le _⟩ (Nat.zero_le _) dX0_shelf_1 (fun _ => ?_)
  rw [is4 i hi]
  refine tw_if_eq (a := ()) (b := ()) (z := ()) (tgt := 40) X dX0_shelf_4 rfl (ite_self _) (fun z _ => absurd z (by decide)) (fun _ _ => ?_)
  refine tw_iload_n X dX0_shelf_7 rfl 2 rfl ?_
  refine tw_iconst (v := 0) X dX0_shelf_8 rfl ?_
  refine tw_iconst (v := 2) X dX0_shelf_9 rfl ?_
  refine tp_isIn X ⟨Nat.le_of_ble_eq_true rfl, Nat.le_of_ble_eq_true rfl⟩ ⟨Nat.zero_le _, Nat.zero_le _⟩ (Nat.zero_le _) dX0_shelf_10 (fun _ => ?_)
  refine tw_if_eq (a := ()) (b := ()) (z := ()) (tgt := 40) X dX0_shelf_13 rfl (ite_self _) (fun z _ => absurd z (by unfold kF_isIn; decide)) (fun _ _ => ?_)
  refine tw_iload_n X dX0_shelf_16 rfl 2 rfl ?_
  refine tw_iconst (v := 1) X dX0_shelf_17 rfl ?_
  refine tw_icmp_ne (a := ()) (b := ()) (z := ()) (tgt := 28) X dX0_shelf_18 rfl (ite_self _) (fun z _ => absurd z (by decide)) (fun _ _ => ?_)
  refine tw_iload_n X dX0_shelf_28 rfl 2 rfl ?_
  refine tw_if_ne (a := ()) (b := ()) (z := ()) (tgt := 42) X dX0_shelf_29 rfl (ite_self _) (fun _ _ => ?_) (fun z _ => absurd rfl z)
  refine tw_aload_n X dX0_shelf_32 rfl 0 rfl ?_
  refine tw_iload_n X dX0_shelf_33 rfl 3 rfl ?_
  refine tp_isPerson X ⟨Nat.le_of_ble_eq_true rfl, Nat.le_of_ble_eq_true rfl⟩ ⟨Nat.zero_le _, Nat.zero_le _⟩ (Nat.zero_le _) dX0_shelf_34 (fun _ => ?_)
  refine tw_if_ne (a := ()) (b := ()) (z := ()) (tgt := 42) X dX0_shelf_37 rfl (ite_self _) (fun z _ => absurd z hn) (fun _ _ => ?_)
  refine tw_aload_n X dX0_shelf_42 rfl 0 rfl ?_
  refine kgX0_132_0 X dX0_shelf_43 ?_
  refine tw_iload_n X dX0_shelf_46 rfl 1 rfl ?_
  refine tr_shelf X hi dX0_shelf_47 ?_
  refine tw_iload_n X dX0_shelf_48 rfl 2 rfl ?_
  refine tw_if_ne (a := ()) (b := ()) (z := ()) (tgt := 63) X dX0_shelf_49 rfl (ite_self _) (fun _ _ => ?_) (fun z _ => absurd rfl z)
  refine tk_new (ci := 18) (fs := [.int 0]) X in_X20 tyX20 tyX20_ok q1284 q1285 q149 rfl (fun j hj => by match j, hj with | 0, _ => rfl) (Nat.le_refl _) (Nat.le_refl _) dX0_shelf_52 (fun q => ?_)
  refine tw_dup X dX0_shelf_55 rfl ?_
  refine tw_iload_n X dX0_shelf_56 rfl 3 rfl ?_
  refine tx_callI (n := 1) (b := q) (As := [.int n]) (st := [.ref q, .ref (K (110 + i))]) Y (kx_iTicket (ext := []) q n) (lw_meth q1288) q149 q1286 q1287 rfl (by decide +kernel) ⟨Nat.le_of_ble_eq_true rfl, Nat.le_of_ble_eq_true rfl⟩ ⟨Nat.le_refl _, Nat.le_refl _⟩ rfl rfl (Nat.le_of_ble_eq_true rfl) dX0_shelf_57 (fun E x t h => h.elim) (fun v t h2 => ?_)
  obtain ⟨rfl, hb⟩ := h2
  refine TW.at ?_ hb
  refine tw_goto (tgt := 81) X dX0_shelf_60 rfl ?_
  refine tr_putH (x := some q) X hi dX0_shelf_81 ?_
  refine tw_iconst (v := 1) X dX0_shelf_84 rfl ?_
  exact tx_iret X hr (Nat.le_refl _) (Nat.le_refl _) (fun t b => ⟨q, rfl, b⟩) dX0_shelf_85
theorem kx_shelf_s {i j : Nat} (hi : i < 4) (hj : j < 4) : CX l yX0_shelf cX0_shelf 4 (some .int) 3 90 1 1 D vwCl (kT δ) A aK aV (kW K δ sr ρ dy) [.ref (K 0), .int (nI i), .int 1, .int (nI j)] g (SA D A K δ sr (upR ρ 2 i (ρ 3 j)) dy g 1) (fun _ _ _ => False) := by
  refine cx_intro (own := RX0) (lv0 := [(0, .ref (K 0)), (1, .int (nI i)), (2, .int 1), (3, .int (nI j))]) (by decide) rfl (Nat.le_of_ble_eq_true rfl) rfl ?_
  intro p e s m args below meth c Y hr hmn htab
  have X := Y.x
  refine tw_iload_n X dX0_shelf_0 rfl 1 rfl ?_
  refine tp_isShelf X ⟨Nat.le_of_ble_eq_true rfl, Nat.le_of_ble_eq_true rfl⟩ ⟨Nat.zero_le _, Nat.zero_le _⟩ (Nat.zero_le _) dX0_shelf_1 (fun _ => ?_)
  rw [is4 i hi]
  refine tw_if_eq (a := ()) (b := ()) (z := ()) (tgt := 40) X dX0_shelf_4 rfl (ite_self _) (fun z _ => absurd z (by decide)) (fun _ _ => ?_)
  refine tw_iload_n X dX0_shelf_7 rfl 2 rfl ?_
  refine tw_iconst (v := 0) X dX0_shelf_8 rfl ?_
  refine tw_iconst (v := 2) X dX0_shelf_9 rfl ?_
  refine tp_isIn X ⟨Nat.le_of_ble_eq_true rfl, Nat.le_of_ble_eq_true rfl⟩ ⟨Nat.zero_le _, Nat.zero_le _⟩ (Nat.zero_le _) dX0_shelf_10 (fun _ => ?_)
  refine tw_if_eq (a := ()) (b := ()) (z := ()) (tgt := 40) X dX0_shelf_13 rfl (ite_self _) (fun z _ => absurd z (by unfold kF_isIn; decide)) (fun _ _ => ?_)
  refine tw_iload_n X dX0_shelf_16 rfl 2 rfl ?_
  refine tw_iconst (v := 1) X dX0_shelf_17 rfl ?_
  refine tw_icmp_ne (a := ()) (b := ()) (z := ()) (tgt := 28) X dX0_shelf_18 rfl (ite_self _) (fun _ _ => ?_) (fun z _ => absurd rfl z)
  refine tw_iload_n X dX0_shelf_21 rfl 3 rfl ?_
  refine tp_isShelf X ⟨Nat.le_of_ble_eq_true rfl, Nat.le_of_ble_eq_true rfl⟩ ⟨Nat.zero_le _, Nat.zero_le _⟩ (Nat.zero_le _) dX0_shelf_22 (fun _ => ?_)
  rw [is4 j hj]
  refine tw_if_eq (a := ()) (b := ()) (z := ()) (tgt := 40) X dX0_shelf_25 rfl (ite_self _) (fun z _ => absurd z (by decide)) (fun _ _ => ?_)
  refine tw_iload_n X dX0_shelf_28 rfl 2 rfl ?_
  refine tw_if_ne (a := ()) (b := ()) (z := ()) (tgt := 42) X dX0_shelf_29 rfl (ite_self _) (fun z _ => absurd z (by decide)) (fun _ _ => ?_)
  refine tw_aload_n X dX0_shelf_42 rfl 0 rfl ?_
  refine kgX0_132_0 X dX0_shelf_43 ?_
  refine tw_iload_n X dX0_shelf_46 rfl 1 rfl ?_
  refine tr_shelf X hi dX0_shelf_47 ?_
  refine tw_iload_n X dX0_shelf_48 rfl 2 rfl ?_
  refine tw_if_ne (a := ()) (b := ()) (z := ()) (tgt := 63) X dX0_shelf_49 rfl (ite_self _) (fun z _ => absurd z (by decide)) (fun _ _ => ?_)
  refine tw_iload_n X dX0_shelf_63 rfl 2 rfl ?_
  refine tw_iconst (v := 1) X dX0_shelf_64 rfl ?_
  refine tw_icmp_ne (a := ()) (b := ()) (z := ()) (tgt := 80) X dX0_shelf_65 rfl (ite_self _) (fun _ _ => ?_) (fun z _ => absurd rfl z)
  refine tw_aload_n X dX0_shelf_68 rfl 0 rfl ?_
  refine kgX0_136_0 X dX0_shelf_69 ?_
  refine tw_iload_n X dX0_shelf_72 rfl 3 rfl ?_
  refine tr_sheet X hj dX0_shelf_73 ?_
  refine tr_getS X hj dX0_shelf_74 ?_
  refine tw_goto (tgt := 81) X dX0_shelf_77 rfl ?_
  refine tr_putH (x := ρ 3 j) X hi dX0_shelf_81 ?_
  refine tw_iconst (v := 1) X dX0_shelf_84 rfl ?_
  exact tx_iret X hr (Nat.zero_le _) (Nat.zero_le _) (fun t b => ⟨rfl, b⟩) dX0_shelf_85
theorem kx_shelf_n {i : Nat} {n : Int32} (hi : i < 4) : CX l yX0_shelf cX0_shelf 4 (some .int) 3 90 1 1 D vwCl (kT δ) A aK aV (kW K δ sr ρ dy) [.ref (K 0), .int (nI i), .int 2, .int n] g (SA D A K δ sr (upR ρ 2 i none) dy g 1) (fun _ _ _ => False) := by
  refine cx_intro (own := RX0) (lv0 := [(0, .ref (K 0)), (1, .int (nI i)), (2, .int 2), (3, .int n)]) (by decide) rfl (Nat.le_of_ble_eq_true rfl) rfl ?_
  intro p e s m args below meth c Y hr hmn htab
  have X := Y.x
  refine tw_iload_n X dX0_shelf_0 rfl 1 rfl ?_
  refine tp_isShelf X ⟨Nat.le_of_ble_eq_true rfl, Nat.le_of_ble_eq_true rfl⟩ ⟨Nat.zero_le _, Nat.zero_le _⟩ (Nat.zero_le _) dX0_shelf_1 (fun _ => ?_)
  rw [is4 i hi]
  refine tw_if_eq (a := ()) (b := ()) (z := ()) (tgt := 40) X dX0_shelf_4 rfl (ite_self _) (fun z _ => absurd z (by decide)) (fun _ _ => ?_)
  refine tw_iload_n X dX0_shelf_7 rfl 2 rfl ?_
  refine tw_iconst (v := 0) X dX0_shelf_8 rfl ?_
  refine tw_iconst (v := 2) X dX0_shelf_9 rfl ?_
  refine tp_isIn X ⟨Nat.le_of_ble_eq_true rfl, Nat.le_of_ble_eq_true rfl⟩ ⟨Nat.zero_le _, Nat.zero_le _⟩ (Nat.zero_le _) dX0_shelf_10 (fun _ => ?_)
  refine tw_if_eq (a := ()) (b := ()) (z := ()) (tgt := 40) X dX0_shelf_13 rfl (ite_self _) (fun z _ => absurd z (by unfold kF_isIn; decide)) (fun _ _ => ?_)
  refine tw_iload_n X dX0_shelf_16 rfl 2 rfl ?_
  refine tw_iconst (v := 1) X dX0_shelf_17 rfl ?_
  refine tw_icmp_ne (a := ()) (b := ()) (z := ()) (tgt := 28) X dX0_shelf_18 rfl (ite_self _) (fun z _ => absurd z (by decide)) (fun _ _ => ?_)
  refine tw_iload_n X dX0_shelf_28 rfl 2 rfl ?_
  refine tw_if_ne (a := ()) (b := ()) (z := ()) (tgt := 42) X dX0_shelf_29 rfl (ite_self _) (fun z _ => absurd z (by decide)) (fun _ _ => ?_)
  refine tw_aload_n X dX0_shelf_42 rfl 0 rfl ?_
  refine kgX0_132_0 X dX0_shelf_43 ?_
  refine tw_iload_n X dX0_shelf_46 rfl 1 rfl ?_
  refine tr_shelf X hi dX0_shelf_47 ?_
  refine tw_iload_n X dX0_shelf_48 rfl 2 rfl ?_
  refine tw_if_ne (a := ()) (b := ()) (z := ()) (tgt := 63) X dX0_shelf_49 rfl (ite_self _) (fun z _ => absurd z (by decide)) (fun _ _ => ?_)
  refine tw_iload_n X dX0_shelf_63 rfl 2 rfl ?_
  refine tw_iconst (v := 1) X dX0_shelf_64 rfl ?_
  refine tw_icmp_ne (a := ()) (b := ()) (z := ()) (tgt := 80) X dX0_shelf_65 rfl (ite_self _) (fun z _ => absurd z (by decide)) (fun _ _ => ?_)
  refine tw_null X dX0_shelf_80 ?_
  refine tr_putH (x := none) X hi dX0_shelf_81 ?_
  refine tw_iconst (v := 1) X dX0_shelf_84 rfl ?_
  exact tx_iret X hr (Nat.zero_le _) (Nat.zero_le _) (fun t b => ⟨rfl, b⟩) dX0_shelf_85
/-- what a shelf's holder comes to -/
def HeldIs (g : St) (δ : Nat → ClassId) (ρ : Rf) (dy : va_W) (i : Nat) (v : Value) : Prop := (ρ 2 i = none ∧ v = .null) ∨ (∃ q k N f, ρ 2 i = some q ∧ k < 5 ∧ (q, shE δ k N f) ∈ dy ∧ v = .ref q) ∨ (∃ q n, ρ 2 i = some q ∧ (q, (.inr (18, [.int n]) : va_E)) ∈ dy ∧ ((kF_isIn n 0 (g 40 0 - 1) = 0 ∧ v = .null) ∨ (¬ kF_isIn n 0 (g 40 0 - 1) = 0 ∧ ∃ j, j < 6 ∧ n = nI j ∧ v = va_rf (ρ 1 j))))
theorem kx_held {i : Nat} {v : Value} (hi : i < 4) (h : HeldIs g δ ρ dy i v) : CX l yX0_held cX0_held 4 (some (.object "java/lang/Object")) 2 50 0 0 D vwCl (kT δ) A aK aV (kW K δ sr ρ dy) [.ref (K 0), .int (nI i)] g (fun w t => w = some v ∧ BW D vwCl A (kW K δ sr ρ dy) g t) (fun _ _ _ => False) := by
  refine cx_intro (own := RX0) (lv0 := [(0, .ref (K 0)), (1, .int (nI i))]) (by decide) rfl (Nat.le_of_ble_eq_true rfl) rfl ?_
  intro p e s m args below meth c Y hr hmn htab
  have X := Y.x
  refine tw_aload_n X dX0_held_0 rfl 0 rfl ?_
  refine kgX0_132_0 X dX0_held_1 ?_
  refine tw_iload_n X dX0_held_4 rfl 1 rfl ?_
  refine tr_shelf X hi dX0_held_5 ?_
  refine tr_getH X hi dX0_held_6 ?_
  rcases h with ⟨h1, rfl⟩ | ⟨q, k, N, f, h1, hk, hm, rfl⟩ | ⟨q, n, h1, hm, h⟩
  · rw [h1]
    refine tw_astore_nN (lv' := [(2, .null), (0, .ref (K 0)), (1, .int (nI i))]) X dX0_held_9 rfl (by decide) rfl ?_
    refine tw_aload_nN X dX0_held_10 rfl 0 rfl ?_
    refine tr_instNull X dX0_held_11 ?_
    refine tw_if_ne (a := ()) (b := ()) (z := ()) (tgt := 19) X dX0_held_14 rfl (ite_self _) (fun _ _ => ?_) (fun z _ => absurd rfl z)
    refine tw_aload_nN X dX0_held_17 rfl 0 rfl ?_
    exact tx_aret X hr (Or.inl ⟨_, rfl⟩) (Or.inl rfl) (Nat.zero_le _) (Nat.zero_le _) (fun t b => ⟨rfl, b⟩) dX0_held_18
  · rw [h1]
    refine tw_astore_n (lv' := [(2, .ref q), (0, .ref (K 0)), (1, .int (nI i))]) X dX0_held_9 rfl (by decide) rfl ?_
    refine tw_aload_n X dX0_held_10 rfl 0 rfl ?_
    refine tr_instN Y (sh_recv X hm) (List.contains_iff_mem.mp (nc_st0 k hk)) q1284 dX0_held_11 ?_
    refine tw_if_ne (a := ()) (b := ()) (z := ()) (tgt := 19) X dX0_held_14 rfl (ite_self _) (fun _ _ => ?_) (fun z _ => absurd rfl z)
    refine tw_aload_n X dX0_held_17 rfl 0 rfl ?_
    exact tx_aret X hr (Or.inl ⟨_, rfl⟩) (Or.inr ⟨_, rfl⟩) (Nat.zero_le _) (Nat.zero_le _) (fun t b => ⟨rfl, b⟩) dX0_held_18
  · rw [h1]
    obtain ⟨q0, he⟩ := kW_dy (K := K) (sr := sr) (ρ := ρ) (δ := δ) (g := g) hm
    refine tw_astore_n (lv' := [(2, .ref q), (0, .ref (K 0)), (1, .int (nI i))]) X dX0_held_9 rfl (by decide) rfl ?_
    refine tw_aload_n X dX0_held_10 rfl 0 rfl ?_
    refine tr_instS X (tk_recv X hm) q1284 dX0_held_11 ?_
    refine tw_if_ne (a := ()) (b := ()) (z := ()) (tgt := 19) X dX0_held_14 rfl (ite_self _) (fun z _ => absurd z (by decide)) (fun _ _ => ?_)
    refine tw_aload_n X dX0_held_19 rfl 0 rfl ?_
    refine tr_castS X (tk_recv X hm) q1284 dX0_held_20 ?_
    refine tw_astore_n (lv' := [(3, .ref q), (2, .ref q), (0, .ref (K 0)), (1, .int (nI i))]) X dX0_held_23 rfl (by decide) rfl ?_
    refine tw_aload_n X dX0_held_24 rfl 2 rfl ?_
    refine tw_aload_n X dX0_held_25 rfl 0 rfl ?_
    refine tw_getN X in_X20 q0 he rfl 0 (by decide) nq1291 rfl rfl dX0_held_26 ?_
    refine tp_isPerson X ⟨Nat.le_of_ble_eq_true rfl, Nat.le_of_ble_eq_true rfl⟩ ⟨Nat.zero_le _, Nat.zero_le _⟩ (Nat.zero_le _) dX0_held_29 (fun _ => ?_)
    rcases h with ⟨h2, rfl⟩ | ⟨h2, j, hj, rfl, rfl⟩
    · refine tw_if_eq (a := ()) (b := ()) (z := ()) (tgt := 47) X dX0_held_32 rfl (ite_self _) (fun _ _ => ?_) (fun z _ => absurd h2 z)
      refine tw_null X dX0_held_47 ?_
      exact tx_aret X hr (Or.inl ⟨_, rfl⟩) (Or.inl rfl) (Nat.zero_le _) (Nat.zero_le _) (fun t b => ⟨rfl, b⟩) dX0_held_48
    · refine tw_if_eq (a := ()) (b := ()) (z := ()) (tgt := 47) X dX0_held_32 rfl (ite_self _) (fun z _ => absurd z h2) (fun _ _ => ?_)
      refine tw_aload_n X dX0_held_35 rfl 2 rfl ?_
      refine kgX0_59_0 X dX0_held_36 ?_
      refine tw_aload_n X dX0_held_39 rfl 0 rfl ?_
      refine tw_getN X in_X20 q0 he rfl 0 (by decide) nq1291 rfl rfl dX0_held_40 ?_
      have kk : TW p l e (romX 2 50 0 0) s m args below meth c (vx_MQ below (QO A (fun w t => w = some (va_rf (ρ 1 j)) ∧ BW D vwCl A (kW K δ sr ρ dy) g t)) (XO A (fun _ _ _ => False)) args s 0 0 A) D vwCl A (kW K δ sr ρ dy) 4 0 0 g 44 [(3, .ref q), (2, .ref q), (0, .ref (K 0)), (1, .int (nI i))] [va_rf (ρ 1 j)] := by
        refine tw_goto (tgt := 48) X dX0_held_44 rfl ?_
        exact tx_aret X hr (Or.inl ⟨_, rfl⟩) (rf_v _) (Nat.zero_le _) (Nat.zero_le _) (fun t b => ⟨rfl, b⟩) dX0_held_48
      exact fun H locs ls hl hP hD hS => va_aldq X.hx X.hb X.hK hP 45 2 (rfl : (kW K δ sr ρ dy g)[45]? = some (K 6, .inl (δ 2, 6, .inr (.inr (.inr (.inr (ρ 1))))))) rfl (vp_in_nI hj (by decide)) dX0_held_43 (by rw [nI_clamp (by omega)]; exact kk H locs ls hl hP hD hS)
end KHE
