/-! the host: sheet, write, item -/
set_option maxRecDepth 100000
theorem tdc_len : ∀ (fuel n : Nat) (ds : List Char) (k : Nat), n < 10 ^ k → 1 ≤ k → (Nat.toDigitsCore 10 fuel n ds).length ≤ ds.length + k
  | 0, n, ds, k, _, _ => by unfold Nat.toDigitsCore; omega
  | fuel + 1, n, ds, k, h, hk => by
    unfold Nat.toDigitsCore
    by_cases q : n / 10 = 0
    · simp only [q, if_true]
      rw [List.length_cons]
      omega
    · simp only [q, if_false]
      have hk2 : 2 ≤ k := by
        by_cases e : k = 1
        · subst e
          omega
        · omega
      have := tdc_len fuel (n / 10) (Nat.digitChar (n % 10) :: ds) (k - 1) (by
        have e1 : 10 ^ k = 10 ^ (k - 1) * 10 := by rw [← Nat.pow_succ]; congr 1; omega
        omega) (by omega)
      rw [List.length_cons] at this
      omega
theorem neg_txt {n : Int32} (hn : n < 0) (tx : String) (h : tx = toString n) : (tx == notModelled) = false ∧ tx.toList.length ≤ 250 := by
  subst h
  have h1 : toString n = toString n.toInt := rfl
  rw [h1]
  have h2 : n.toInt < 0 := by
    rw [Int32.lt_iff_toInt_lt] at hn
    exact hn
  have h3 := Int32.le_toInt n
  obtain ⟨k, hk⟩ : ∃ k : Nat, n.toInt = Int.negSucc k := by
    match hz : n.toInt, h2 with
    | Int.negSucc k, _ => exact ⟨k, rfl⟩
    | Int.ofNat k, h => exact absurd (show (k : Int) < 0 from h) (by omega)
  rw [hk]
  have h4 : toString (Int.negSucc k) = "-" ++ Nat.repr (k + 1) := rfl
  rw [h4]
  constructor
  · rw [beq_eq_false_iff_ne]
    intro z
    have z2 := congrArg (fun s : String => s.toList.head?) z
    simp only [String.toList_append] at z2
    have z3 : ("-".toList ++ (Nat.repr (k + 1)).toList).head? = some '-' := rfl
    have z4 : notModelled.toList.head? = some (Char.ofNat 0) := by decide
    rw [z3, z4] at z2
    exact absurd z2 (by decide)
  · rw [String.toList_append, List.length_append]
    have e1 : (Nat.repr (k + 1)).toList = Nat.toDigits 10 (k + 1) := by
      unfold Nat.repr
      rw [String.toList_ofList]
    rw [e1]
    have hk2 : k + 1 < 10 ^ 20 := by
      have : (-2 ^ 31 : Int) ≤ Int.negSucc k := by rw [← hk]; exact h3
      omega
    have := tdc_len (k + 1 + 1) (k + 1) [] 20 hk2 (by omega)
    have e2 : ("-".toList).length = 1 := rfl
    have e3 : (Nat.toDigits 10 (k + 1)).length ≤ 0 + 20 := this
    omega
section KHD
variable {p : Program} {l : Launch} {e0 : Env} {R : Room} {s : State} {m : MethodId} {args : Array Value} {below : List Frame} {meth : Method} {c : Code} {Q : State → Prop} {D : va_G} {A : Nat → Prop} {nL ce sl : Nat} {g : St} {pc : Nat} {lv : List (Nat × Value)} {st : List Value} {cc : ByteArray} {own : String} {K : Nat → Nat} {δ : Nat → ClassId} {sr ρ : Rf} {dy d1 d2 : va_W} {aK aV : Nat → Nat}
abbrev hhSheet : List (Nat × Nat × Nat × Nat) := [((28 : Nat), (51 : Nat), (52 : Nat), (526 : Nat))]
abbrev hhWrite : List (Nat × Nat × Nat × Nat) := [((9 : Nat), (62 : Nat), (63 : Nat), (8 : Nat))]
abbrev hhItem : List (Nat × Nat × Nat × Nat) := [((18 : Nat), (33 : Nat), (34 : Nat), (556 : Nat)), ((18 : Nat), (33 : Nat), (39 : Nat), (558 : Nat)), ((18 : Nat), (33 : Nat), (44 : Nat), (8 : Nat))]
/-- the same world, an answer -/
def SA (D : va_G) (A : Nat → Prop) (K : Nat → Nat) (δ : Nat → ClassId) (sr ρ : Rf) (dy : va_W) (g : St) (x : Int32) (v : Option Value) (t : State) : Prop := v = some (.int x) ∧ BW D vwCl A (kW K δ sr ρ dy) g t
/-- isShelf(..) -/
theorem tp_isShelf (X : Cx p c cc nL s args RX0 m meth D vwCl (kT δ) A) {x : Int32} (hR : 2 ≤ R.frames ∧ 42 ≤ R.locals) (hc : ce ≤ R.cells ∧ sl ≤ R.slots) (hW : (st.map fun v => v.category).sum ≤ 8) (hdg : decode cc pc = .ok (.invokestatic 515, 3)) (kk : zb (kF_isShelf x) → TW p l e0 R s m args below meth c Q D vwCl A (kW K δ sr ρ dy) nL ce sl g (pc + 3) lv (.int (kF_isShelf x) :: st)) : TW p l e0 R s m args below meth c Q D vwCl A (kW K δ sr ρ dy) nL ce sl g pc lv (.int x :: st) :=
  tw_callSz (As := [.int x]) (st := st) X (kC_isShelf x) kGX0_515 kI_X0_isShelf ⟨hR.1, hR.2⟩ hc rfl rfl hW hdg kk
theorem tp_isIn (X : Cx p c cc nL s args RX0 m meth D vwCl (kT δ) A) {x y z : Int32} (hR : 1 ≤ R.frames ∧ 22 ≤ R.locals) (hc : ce ≤ R.cells ∧ sl ≤ R.slots) (hW : (st.map fun v => v.category).sum ≤ 8) (hdg : decode cc pc = .ok (.invokestatic 149, 3)) (kk : zb (kF_isIn x y z) → TW p l e0 R s m args below meth c Q D vwCl A (kW K δ sr ρ dy) nL ce sl g (pc + 3) lv (.int (kF_isIn x y z) :: st)) : TW p l e0 R s m args below meth c Q D vwCl A (kW K δ sr ρ dy) nL ce sl g pc lv (.int z :: .int y :: .int x :: st) :=
  tw_callSz (As := [.int x, .int y, .int z]) (st := st) X (kC_isIn x y z) kGX0_149 kI_X0_isIn ⟨hR.1, hR.2⟩ hc rfl rfl hW hdg kk
theorem kx_sheet_bad {i so n : Int32} (h : kF_isShelf i = 0 ∨ kF_isIn so (-1) 4 = 0 ∨ (¬ so < 0 ∧ ¬ n ≤ 40)) : CXW l yX0_sheet cX0_sheet 5 (some .int) hhSheet 8 10300 3 1010 D vwCl (kT δ) A aK aV (kW K δ sr ρ dy) [.ref (K 0), .int i, .int so, .int n] g (SA D A K δ sr ρ dy g (-1)) (fun _ _ _ => False) := by
  refine cxW_intro (own := RX0) (lv0 := [(0, .ref (K 0)), (1, .int i), (2, .int so), (3, .int n)]) (by decide) rfl (Nat.le_of_ble_eq_true rfl) rfl ?_
  intro p e s m args below meth c Y hr htab
  have X := Y.x
  have bad : TW p l e (romX 8 10300 3 1010) s m args below meth c (vx_MQ below (QO A (SA D A K δ sr ρ dy g (-1))) (XO A (fun _ _ _ => False)) args s 3 1010 A) D vwCl A (kW K δ sr ρ dy) 5 0 0 g 26 [(0, .ref (K 0)), (1, .int i), (2, .int so), (3, .int n)] [] := by
    refine tw_iconst (v := -1) X dX0_sheet_26 rfl ?_
    exact tx_iret X hr (Nat.zero_le _) (Nat.zero_le _) (fun t b => ⟨rfl, b⟩) dX0_sheet_27
  refine tw_iload_n X dX0_sheet_0 rfl 1 rfl ?_
  refine tp_isShelf X ⟨Nat.le_of_ble_eq_true rfl, Nat.le_of_ble_eq_true rfl⟩ ⟨Nat.zero_le _, Nat.zero_le _⟩ (Nat.zero_le _) dX0_sheet_1 (fun _ => ?_)
  refine tw_if_eq (a := ()) (b := ()) (z := ()) (tgt := 26) X dX0_sheet_4 rfl (ite_self _) (fun _ _ => bad) (fun z1 _ => ?_)
  refine tw_iload_n X dX0_sheet_7 rfl 2 rfl ?_
  refine tw_iconst (v := -1) X dX0_sheet_8 rfl ?_
  refine tw_iconst (v := 4) X dX0_sheet_9 rfl ?_
  refine tp_isIn X ⟨Nat.le_of_ble_eq_true rfl, Nat.le_of_ble_eq_true rfl⟩ ⟨Nat.zero_le _, Nat.zero_le _⟩ (Nat.zero_le _) dX0_sheet_10 (fun _ => ?_)
  refine tw_if_eq (a := ()) (b := ()) (z := ()) (tgt := 26) X dX0_sheet_13 rfl (ite_self _) (fun _ _ => bad) (fun z2 _ => ?_)
  obtain ⟨h1, h2⟩ := (h.resolve_left z1).resolve_left z2
  refine tw_iload_n X dX0_sheet_16 rfl 2 rfl ?_
  refine tw_if_lt (a := ()) (b := ()) (z := ()) (tgt := 28) X dX0_sheet_17 rfl (ite_self _) (fun z _ => absurd z h1) (fun _ _ => ?_)
  refine tw_iload_n X dX0_sheet_20 rfl 3 rfl ?_
  refine tw_bipush (v := 40) X dX0_sheet_21 rfl ?_
  refine tw_icmp_le (a := ()) (b := ()) (z := ()) (tgt := 28) X dX0_sheet_23 rfl (ite_self _) (fun z _ => absurd z h2) (fun _ _ => ?_)
  exact bad
theorem kx_sheet_null {i : Nat} (hi : i < 4) (n : Int32) : CXW l yX0_sheet cX0_sheet 5 (some .int) hhSheet 8 10300 3 1010 D vwCl (kT δ) A aK aV (kW K δ sr ρ dy) [.ref (K 0), .int (nI i), .int (-1), .int n] g (SA D A K δ sr (upR ρ 3 i none) dy g 1) (fun _ _ _ => False) := by
  refine cxW_intro (own := RX0) (lv0 := [(0, .ref (K 0)), (1, .int (nI i)), (2, .int (-1)), (3, .int n)]) (by decide) rfl (Nat.le_of_ble_eq_true rfl) rfl ?_
  intro p e s m args below meth c Y hr htab
  have X := Y.x
  refine tw_iload_n X dX0_sheet_0 rfl 1 rfl ?_
  refine tp_isShelf X ⟨Nat.le_of_ble_eq_true rfl, Nat.le_of_ble_eq_true rfl⟩ ⟨Nat.zero_le _, Nat.zero_le _⟩ (Nat.zero_le _) dX0_sheet_1 (fun _ => ?_)
  rw [is4 i hi]
  refine tw_if_eq (a := ()) (b := ()) (z := ()) (tgt := 26) X dX0_sheet_4 rfl (ite_self _) (fun z _ => absurd z (by decide)) (fun _ _ => ?_)
  refine tw_iload_n X dX0_sheet_7 rfl 2 rfl ?_
  refine tw_iconst (v := -1) X dX0_sheet_8 rfl ?_
  refine tw_iconst (v := 4) X dX0_sheet_9 rfl ?_
  refine tp_isIn X ⟨Nat.le_of_ble_eq_true rfl, Nat.le_of_ble_eq_true rfl⟩ ⟨Nat.zero_le _, Nat.zero_le _⟩ (Nat.zero_le _) dX0_sheet_10 (fun _ => ?_)
  refine tw_if_eq (a := ()) (b := ()) (z := ()) (tgt := 26) X dX0_sheet_13 rfl (ite_self _) (fun z _ => absurd z (by unfold kF_isIn; decide)) (fun _ _ => ?_)
  refine tw_iload_n X dX0_sheet_16 rfl 2 rfl ?_
  refine tw_if_lt (a := ()) (b := ()) (z := ()) (tgt := 28) X dX0_sheet_17 rfl (ite_self _) (fun _ _ => ?_) (fun z _ => absurd (by decide) z)
  refine tw_aload_n X dX0_sheet_28 rfl 0 rfl ?_
  refine kgX0_136_0 X dX0_sheet_29 ?_
  refine tw_iload_n X dX0_sheet_32 rfl 1 rfl ?_
  refine tr_sheet X hi dX0_sheet_33 ?_
  refine tw_iload_n X dX0_sheet_34 rfl 2 rfl ?_
  refine tw_if_ge (a := ()) (b := ()) (z := ()) (tgt := 42) X dX0_sheet_35 rfl (ite_self _) (fun z _ => absurd z (by decide)) (fun _ _ => ?_)
  refine tw_null X dX0_sheet_38 ?_
  refine tw_goto (tgt := 47) X dX0_sheet_39 rfl ?_
  refine tr_putS (x := none) X hi dX0_sheet_47 ?_
  refine tw_iconst (v := 1) X dX0_sheet_50 rfl ?_
  exact tx_iret X hr (Nat.zero_le _) (Nat.zero_le _) (fun t b => ⟨rfl, b⟩) dX0_sheet_51
theorem kx_sheet_go (hl : l.stackTraces = false) {i k : Nat} (hi : i < 4) (hk : k < 5) {n : Int32} {Rr : Option Value → State → Prop} (hn : n ≤ 40) (h0 : n < 0 → ∀ t, BW D vwCl A (kW K δ sr ρ dy) g t → Rr (some (.int (-14))) t) (h1 : ∀ N : Nat, N ≤ 40 → n = nI N → ∀ q t, BW D vwCl A (kW K δ sr (upR ρ 3 i (some q)) (dy ++ [(q, shE δ k N (fun _ => 0))])) g t → Rr (some (.int 1)) t) : CXW l yX0_sheet cX0_sheet 5 (some .int) hhSheet 8 10300 3 1010 D vwCl (kT δ) A aK aV (kW K δ sr ρ dy) [.ref (K 0), .int (nI i), .int (nI k), .int n] g Rr (fun _ _ _ => False) := by
  refine cxW_intro (own := RX0) (lv0 := [(0, .ref (K 0)), (1, .int (nI i)), (2, .int (nI k)), (3, .int n)]) (by decide) rfl (Nat.le_of_ble_eq_true rfl) rfl ?_
  intro p e s m args below meth c Y hr htab
  have X := Y.x
  refine tw_iload_n X dX0_sheet_0 rfl 1 rfl ?_
  refine tp_isShelf X ⟨Nat.le_of_ble_eq_true rfl, Nat.le_of_ble_eq_true rfl⟩ ⟨Nat.zero_le _, Nat.zero_le _⟩ (Nat.zero_le _) dX0_sheet_1 (fun _ => ?_)
  rw [is4 i hi]
  refine tw_if_eq (a := ()) (b := ()) (z := ()) (tgt := 26) X dX0_sheet_4 rfl (ite_self _) (fun z _ => absurd z (by decide)) (fun _ _ => ?_)
  refine tw_iload_n X dX0_sheet_7 rfl 2 rfl ?_
  refine tw_iconst (v := -1) X dX0_sheet_8 rfl ?_
  refine tw_iconst (v := 4) X dX0_sheet_9 rfl ?_
  refine tp_isIn X ⟨Nat.le_of_ble_eq_true rfl, Nat.le_of_ble_eq_true rfl⟩ ⟨Nat.zero_le _, Nat.zero_le _⟩ (Nat.zero_le _) dX0_sheet_10 (fun _ => ?_)
  rw [(is5 k hk).1]
  refine tw_if_eq (a := ()) (b := ()) (z := ()) (tgt := 26) X dX0_sheet_13 rfl (ite_self _) (fun z _ => absurd z (by decide)) (fun _ _ => ?_)
  refine tw_iload_n X dX0_sheet_16 rfl 2 rfl ?_
  refine tw_if_lt (a := ()) (b := ()) (z := ()) (tgt := 28) X dX0_sheet_17 rfl (ite_self _) (fun z _ => absurd z (is5 k hk).2.2) (fun _ _ => ?_)
  refine tw_iload_n X dX0_sheet_20 rfl 3 rfl ?_
  refine tw_bipush (v := 40) X dX0_sheet_21 rfl ?_
  refine tw_icmp_le (a := ()) (b := ()) (z := ()) (tgt := 28) X dX0_sheet_23 rfl (ite_self _) (fun _ _ => ?_) (fun z _ => absurd hn z)
  refine tw_aload_n X dX0_sheet_28 rfl 0 rfl ?_
  refine kgX0_136_0 X dX0_sheet_29 ?_
  refine tw_iload_n X dX0_sheet_32 rfl 1 rfl ?_
  refine tr_sheet X hi dX0_sheet_33 ?_
  refine tw_iload_n X dX0_sheet_34 rfl 2 rfl ?_
  refine tw_if_ge (a := ()) (b := ()) (z := ()) (tgt := 42) X dX0_sheet_35 rfl (ite_self _) (fun _ _ => ?_) (fun z _ => absurd (nI_le (a := 0) (Nat.zero_le _) (by omega)) z)
  refine tw_iload_n X dX0_sheet_42 rfl 2 rfl ?_
  refine tw_iload_n X dX0_sheet_43 rfl 3 rfl ?_
  by_cases hneg : n < 0
  · refine tx_callS (n := 2) (As := [.int (nI k), .int n]) (st := [.ref (K (120 + i))]) Y (kx_rowOfZ hl hk hneg (neg_txt hneg)) kGX0_518 kI_X0_rowOf ⟨Nat.le_of_ble_eq_true rfl, Nat.le_of_ble_eq_true rfl⟩ ⟨Nat.le_of_ble_eq_true rfl, Nat.le_of_ble_eq_true rfl⟩ rfl rfl (Nat.le_of_ble_eq_true rfl) dX0_sheet_44 (fun E x t h => ?_) (fun v t h => h.elim)
    obtain ⟨rfl, hb⟩ := h
    refine tx_catch X [] ⟨28, 51, 52, 526⟩ _ htab (fun z hz => by cases hz) (by decide) (by decide) q1166 nw_SS (TW.at ?_ hb)
    refine tw_astore (lv' := [(4, .ref x), (0, .ref (K 0)), (1, .int (nI i)), (2, .int (nI k)), (3, .int n)]) X dX0_sheet_52 (by decide) rfl ?_
    refine tw_bipush (v := -14) X dX0_sheet_54 rfl ?_
    exact tx_iret X hr (Nat.le_refl _) (Nat.le_refl _) (fun t b => h0 hneg t b) dX0_sheet_56
  · obtain ⟨N, hN, rfl⟩ := nI_of2 (n := 40) (by decide) hneg hn
    refine tx_callS (n := 2) (As := [.int (nI k), .int (nI N)]) (st := [.ref (K (120 + i))]) Y (kx_rowOf hk hN) kGX0_518 kI_X0_rowOf ⟨Nat.le_of_ble_eq_true rfl, Nat.le_of_ble_eq_true rfl⟩ ⟨Nat.le_of_ble_eq_true rfl, Nat.le_of_ble_eq_true rfl⟩ rfl rfl (Nat.le_of_ble_eq_true rfl) dX0_sheet_44 (fun E x t h => h.elim) (fun v t h => ?_)
    obtain ⟨q, rfl, hb⟩ := h
    refine TW.at ?_ hb
    refine tr_putS (x := some q) X hi dX0_sheet_47 ?_
    refine tw_iconst (v := 1) X dX0_sheet_50 rfl ?_
    exact tx_iret X hr (Nat.le_refl _) (Nat.le_refl _) (fun t b => h1 N hN rfl q t b) dX0_sheet_51
/-- write: no such sheet; nothing there; outside; done -/
theorem kx_write_bad {i j v : Int32} (h : kF_isShelf i = 0) : CXW l yX0_write cX0_write 5 (some .int) hhWrite 3 80 0 0 D vwCl (kT δ) A aK aV (kW K δ sr ρ dy) [.ref (K 0), .int i, .int j, .int v] g (SA D A K δ sr ρ dy g (-1)) (fun _ _ _ => False) := by
  refine cxW_intro (own := RX0) (lv0 := [(0, .ref (K 0)), (1, .int i), (2, .int j), (3, .int v)]) (by decide) rfl (Nat.le_of_ble_eq_true rfl) rfl ?_
  intro p e s m args below meth c Y hr htab
  have X := Y.x
  refine tw_iload_n X dX0_write_0 rfl 1 rfl ?_
  refine tp_isShelf X ⟨Nat.le_of_ble_eq_true rfl, Nat.le_of_ble_eq_true rfl⟩ ⟨Nat.zero_le _, Nat.zero_le _⟩ (Nat.zero_le _) dX0_write_1 (fun _ => ?_)
  refine tw_if_ne (a := ()) (b := ()) (z := ()) (tgt := 9) X dX0_write_4 rfl (ite_self _) (fun _ _ => ?_) (fun z _ => absurd h z)
  refine tw_iconst (v := -1) X dX0_write_7 rfl ?_
  exact tx_iret X hr (Nat.zero_le _) (Nat.zero_le _) (fun t b => ⟨rfl, b⟩) dX0_write_8
theorem kx_write_null {i : Nat} {j v : Int32} (hi : i < 4) (hρ : ρ 3 i = none) : CXW l yX0_write cX0_write 5 (some .int) hhWrite 3 80 0 0 D vwCl (kT δ) A aK aV (kW K δ sr ρ dy) [.ref (K 0), .int (nI i), .int j, .int v] g (SA D A K δ sr ρ dy (up2 g 35 0 (-11)) (-11)) (fun _ _ _ => False) := by
  refine cxW_intro (own := RX0) (lv0 := [(0, .ref (K 0)), (1, .int (nI i)), (2, .int j), (3, .int v)]) (by decide) rfl (Nat.le_of_ble_eq_true rfl) rfl ?_
  intro p e s m args below meth c Y hr htab
  have X := Y.x
  refine tw_iload_n X dX0_write_0 rfl 1 rfl ?_
  refine tp_isShelf X ⟨Nat.le_of_ble_eq_true rfl, Nat.le_of_ble_eq_true rfl⟩ ⟨Nat.zero_le _, Nat.zero_le _⟩ (Nat.zero_le _) dX0_write_1 (fun _ => ?_)
  rw [is4 i hi]
  refine tw_if_ne (a := ()) (b := ()) (z := ()) (tgt := 9) X dX0_write_4 rfl (ite_self _) (fun z _ => absurd z (by decide)) (fun _ _ => ?_)
  refine tw_aload_n X dX0_write_9 rfl 0 rfl ?_
  refine kgX0_136_0 X dX0_write_10 ?_
  refine tw_iload_n X dX0_write_13 rfl 1 rfl ?_
  refine tr_sheet X hi dX0_write_14 ?_
  refine tr_getS X hi dX0_write_15 ?_
  rw [hρ]
  refine tw_astoreV (v := .null) (lv' := [(4, .null), (0, .ref (K 0)), (1, .int (nI i)), (2, .int j), (3, .int v)]) X (Or.inl rfl) dX0_write_18 (by decide) rfl ?_
  refine tw_aload_n X dX0_write_20 rfl 1 rfl ?_
  refine tw_aloadV (v := .null) X (Or.inl rfl) dX0_write_21 0 rfl ?_
  refine tw_ifnullN (tgt := 30) X dX0_write_23 rfl ?_
  refine tw_iconst (v := 0) X dX0_write_30 rfl ?_
  refine tw_bipush (v := -11) X dX0_write_31 rfl ?_
  refine tx_callV (n := 2) (b := K 0) (As := [.int 0, .int (-11)]) (st := []) Y (kx_must 0 (-11) (Or.inl rfl)) kGX0_536 kI_X0_must ⟨Nat.le_of_ble_eq_true rfl, Nat.le_of_ble_eq_true rfl⟩ ⟨Nat.zero_le _, Nat.zero_le _⟩ 0 rfl rfl rfl rfl (Nat.zero_le _) dX0_write_33 (fun E x t h => ?_) (fun v t h => absurd rfl h.1)
  rcases h.2 with ⟨h3, _⟩ | ⟨h3, _⟩ | ⟨h3, rfl, rfl, b⟩
  · cases h3
  · cases h3
  · refine tx_catch X [] ⟨9, 62, 63, 8⟩ _ htab (fun z hz => by cases hz) (by decide) (by decide) q159 nq161 (TW.at ?_ b)
    refine tw_astore (lv' := [(4, .ref (K 1)), (0, .ref (K 0)), (1, .int (nI i)), (2, .int j), (3, .int v)]) X dX0_write_63 (by decide) rfl ?_
    refine tw_aload X dX0_write_65 0 rfl ?_
    refine kg_ansR X dX0_write_67 ?_
    rw [up35]
    exact tx_iret X hr (Nat.le_refl _) (Nat.le_refl _) (fun t b => ⟨rfl, b⟩) dX0_write_70
theorem kx_write_go {i q k N : Nat} {f : Nat → Int32} {j v : Int32} {Rr : Option Value → State → Prop} (hi : i < 4) (hk : k < 5) (hN : N ≤ 40) (hρ : ρ 3 i = some q) (h0 : kF_isIn j 0 (nI N - 1) = 0 → ∀ t, BW D vwCl A (kW K δ sr ρ (d1 ++ (q, shE δ k N f) :: d2)) (up2 g 35 0 (-12)) t → Rr (some (.int (-12))) t) (h1 : ∀ n, n < N → j = nI n → ∀ t, BW D vwCl A (kW K δ sr ρ (d1 ++ (q, shE δ k N (upd f n (shNar k v))) :: d2)) g t → Rr (some (.int 1)) t) : CXW l yX0_write cX0_write 5 (some .int) hhWrite 3 80 0 0 D vwCl (kT δ) A aK aV (kW K δ sr ρ (d1 ++ (q, shE δ k N f) :: d2)) [.ref (K 0), .int (nI i), .int j, .int v] g Rr (fun _ _ _ => False) := by
  have hm : (q, shE δ k N f) ∈ d1 ++ (q, shE δ k N f) :: d2 := by simp
  refine cxW_intro (own := RX0) (lv0 := [(0, .ref (K 0)), (1, .int (nI i)), (2, .int j), (3, .int v)]) (by decide) rfl (Nat.le_of_ble_eq_true rfl) rfl ?_
  intro p e s m args below meth c Y hr htab
  have X := Y.x
  refine tw_iload_n X dX0_write_0 rfl 1 rfl ?_
  refine tp_isShelf X ⟨Nat.le_of_ble_eq_true rfl, Nat.le_of_ble_eq_true rfl⟩ ⟨Nat.zero_le _, Nat.zero_le _⟩ (Nat.zero_le _) dX0_write_1 (fun _ => ?_)
  rw [is4 i hi]
  refine tw_if_ne (a := ()) (b := ()) (z := ()) (tgt := 9) X dX0_write_4 rfl (ite_self _) (fun z _ => absurd z (by decide)) (fun _ _ => ?_)
  refine tw_aload_n X dX0_write_9 rfl 0 rfl ?_
  refine kgX0_136_0 X dX0_write_10 ?_
  refine tw_iload_n X dX0_write_13 rfl 1 rfl ?_
  refine tr_sheet X hi dX0_write_14 ?_
  refine tr_getS X hi dX0_write_15 ?_
  rw [hρ]
  refine tw_astore (lv' := [(4, .ref q), (0, .ref (K 0)), (1, .int (nI i)), (2, .int j), (3, .int v)]) X dX0_write_18 (by decide) rfl ?_
  refine tw_aload_n X dX0_write_20 rfl 1 rfl ?_
  refine tw_aload X dX0_write_21 0 rfl ?_
  refine tw_ifnull X dX0_write_23 ?_
  refine tw_iconst (v := 1) X dX0_write_26 rfl ?_
  refine tw_goto (tgt := 31) X dX0_write_27 rfl ?_
  refine tw_bipush (v := -11) X dX0_write_31 rfl ?_
  refine tx_callV (n := 2) (b := K 0) (As := [.int 1, .int (-11)]) (st := []) Y (kx_must 1 (-11) (Or.inr rfl)) kGX0_536 kI_X0_must ⟨Nat.le_of_ble_eq_true rfl, Nat.le_of_ble_eq_true rfl⟩ ⟨Nat.zero_le _, Nat.zero_le _⟩ 0 rfl rfl rfl rfl (Nat.zero_le _) dX0_write_33 (fun E x t h => absurd h.1 (by decide)) (fun w t h => ?_)
  obtain ⟨_, rfl, hb⟩ := h
  refine TW.at ?_ hb
  refine tw_aload_n X dX0_write_36 rfl 1 rfl ?_
  refine tw_iload_n X dX0_write_37 rfl 3 rfl ?_
  refine tw_iconst (v := 0) X dX0_write_38 rfl ?_
  refine tw_aload X dX0_write_39 0 rfl ?_
  refine tx_callS (n := 1) (As := [.ref q]) (st := [.int 0, .int j, .ref (K 0)]) Y (kx_length hk hm) kGX0_540 kI_X0_length ⟨Nat.le_of_ble_eq_true rfl, Nat.le_of_ble_eq_true rfl⟩ ⟨Nat.zero_le _, Nat.zero_le _⟩ rfl rfl (Nat.le_of_ble_eq_true rfl) dX0_write_41 (fun E x t h => h.elim) (fun w t h => ?_)
  obtain ⟨rfl, hb2⟩ := h
  refine TW.at ?_ hb2
  refine tw_iconst (v := 1) X dX0_write_44 rfl ?_
  refine tw_isub X dX0_write_45 ?_
  refine tp_isIn X ⟨Nat.le_of_ble_eq_true rfl, Nat.le_of_ble_eq_true rfl⟩ ⟨Nat.zero_le _, Nat.zero_le _⟩ (Nat.le_of_ble_eq_true rfl) dX0_write_46 (fun hz => ?_)
  refine tw_bipush (v := -12) X dX0_write_49 rfl ?_
  refine tx_callV (n := 2) (b := K 0) (As := [.int (kF_isIn j 0 (nI N - 1)), .int (-12)]) (st := []) Y (kx_must _ (-12) hz) kGX0_536 kI_X0_must ⟨Nat.le_of_ble_eq_true rfl, Nat.le_of_ble_eq_true rfl⟩ ⟨Nat.zero_le _, Nat.zero_le _⟩ 0 rfl rfl rfl rfl (Nat.zero_le _) dX0_write_51 (fun E x t h => ?_) (fun w t h => ?_)
  · rcases h.2 with ⟨h3, _⟩ | ⟨h3, _⟩ | ⟨h3, rfl, rfl, b⟩
    · cases h3
    · cases h3
    · refine tx_catch X [] ⟨9, 62, 63, 8⟩ _ htab (fun z hz => by cases hz) (by decide) (by decide) q159 nq161 (TW.at ?_ b)
      refine tw_astore (lv' := [(4, .ref (K 1)), (0, .ref (K 0)), (1, .int (nI i)), (2, .int j), (3, .int v)]) X dX0_write_63 (by decide) rfl ?_
      refine tw_aload X dX0_write_65 0 rfl ?_
      refine kg_ansR X dX0_write_67 ?_
      rw [up35]
      exact tx_iret X hr (Nat.le_refl _) (Nat.le_refl _) (fun t b => h0 h.1 t b) dX0_write_70
  · obtain ⟨h2, rfl, hb3⟩ := h
    obtain ⟨n, hn, rfl⟩ := isIn_in (by omega) h2
    refine TW.at ?_ hb3
    refine tw_aload X dX0_write_54 0 rfl ?_
    refine tw_iload_n X dX0_write_56 rfl 3 rfl ?_
    refine tw_iload_n X dX0_write_57 rfl 4 rfl ?_
    refine tx_callS (n := 3) (As := [.ref q, .int (nI n), .int v]) (st := []) Y (kx_set v hk hn (by omega)) kGX0_543 kI_X0_set ⟨Nat.le_of_ble_eq_true rfl, Nat.le_of_ble_eq_true rfl⟩ ⟨Nat.zero_le _, Nat.zero_le _⟩ rfl rfl (Nat.zero_le _) dX0_write_58 (fun E x t h => h.elim) (fun w t h => ?_)
    obtain ⟨rfl, hb4⟩ := h
    refine TW.at ?_ hb4
    refine tw_iconst (v := 1) X dX0_write_61 rfl ?_
    exact tx_iret X hr (Nat.le_refl _) (Nat.le_refl _) (fun t b => h1 n hn rfl t b) dX0_write_62
/-- item -/
theorem kx_item_bad {i so j : Int32} (h : kF_isShelf i = 0 ∨ kF_isIn so 0 4 = 0) : CXW l yX0_item cX0_item 5 (some .int) hhItem 10 10330 3 1010 D vwCl (kT δ) A aK aV (kW K δ sr ρ dy) [.ref (K 0), .int i, .int so, .int j] g (SA D A K δ sr ρ dy g (-1)) (fun _ _ _ => False) := by
  refine cxW_intro (own := RX0) (lv0 := [(0, .ref (K 0)), (1, .int i), (2, .int so), (3, .int j)]) (by decide) rfl (Nat.le_of_ble_eq_true rfl) rfl ?_
  intro p e s m args below meth c Y hr htab
  have X := Y.x
  have bad : TW p l e (romX 10 10330 3 1010) s m args below meth c (vx_MQ below (QO A (SA D A K δ sr ρ dy g (-1))) (XO A (fun _ _ _ => False)) args s 3 1010 A) D vwCl A (kW K δ sr ρ dy) 5 0 0 g 16 [(0, .ref (K 0)), (1, .int i), (2, .int so), (3, .int j)] [] := by
    refine tw_iconst (v := -1) X dX0_item_16 rfl ?_
    exact tx_iret X hr (Nat.zero_le _) (Nat.zero_le _) (fun t b => ⟨rfl, b⟩) dX0_item_17
  refine tw_iload_n X dX0_item_0 rfl 1 rfl ?_
  refine tp_isShelf X ⟨Nat.le_of_ble_eq_true rfl, Nat.le_of_ble_eq_true rfl⟩ ⟨Nat.zero_le _, Nat.zero_le _⟩ (Nat.zero_le _) dX0_item_1 (fun _ => ?_)
  refine tw_if_eq (a := ()) (b := ()) (z := ()) (tgt := 16) X dX0_item_4 rfl (ite_self _) (fun _ _ => bad) (fun z1 _ => ?_)
  refine tw_iload_n X dX0_item_7 rfl 2 rfl ?_
  refine tw_iconst (v := 0) X dX0_item_8 rfl ?_
  refine tw_iconst (v := 4) X dX0_item_9 rfl ?_
  refine tp_isIn X ⟨Nat.le_of_ble_eq_true rfl, Nat.le_of_ble_eq_true rfl⟩ ⟨Nat.zero_le _, Nat.zero_le _⟩ (Nat.zero_le _) dX0_item_10 (fun _ => ?_)
  refine tw_if_ne (a := ()) (b := ()) (z := ()) (tgt := 18) X dX0_item_13 rfl (ite_self _) (fun _ _ => bad) (fun z2 _ => absurd (h.resolve_left z1) z2)
theorem kx_item_go (hl : l.stackTraces = false) {i so : Nat} {j : Int32} {Rr : Option Value → State → Prop} (hi : i < 4) (hk : so < 5) {u : Nat} (hu : RVs δ dy (va_rf (ρ 3 i)) so (.inr u)) (h0 : ∀ t, BW D vwCl A (kW K δ sr ρ dy) g t → Rr (some (.int (if u = 0 then -13 else -11))) t) : CXW l yX0_item cX0_item 5 (some .int) hhItem 10 10330 3 1010 D vwCl (kT δ) A aK aV (kW K δ sr ρ dy) [.ref (K 0), .int (nI i), .int (nI so), .int j] g Rr (fun _ _ _ => False) := by
  refine cxW_intro (own := RX0) (lv0 := [(0, .ref (K 0)), (1, .int (nI i)), (2, .int (nI so)), (3, .int j)]) (by decide) rfl (Nat.le_of_ble_eq_true rfl) rfl ?_
  intro p e s m args below meth c Y hr htab
  have X := Y.x
  refine tw_iload_n X dX0_item_0 rfl 1 rfl ?_
  refine tp_isShelf X ⟨Nat.le_of_ble_eq_true rfl, Nat.le_of_ble_eq_true rfl⟩ ⟨Nat.zero_le _, Nat.zero_le _⟩ (Nat.zero_le _) dX0_item_1 (fun _ => ?_)
  rw [is4 i hi]
  refine tw_if_eq (a := ()) (b := ()) (z := ()) (tgt := 16) X dX0_item_4 rfl (ite_self _) (fun z _ => absurd z (by decide)) (fun _ _ => ?_)
  refine tw_iload_n X dX0_item_7 rfl 2 rfl ?_
  refine tw_iconst (v := 0) X dX0_item_8 rfl ?_
  refine tw_iconst (v := 4) X dX0_item_9 rfl ?_
  refine tp_isIn X ⟨Nat.le_of_ble_eq_true rfl, Nat.le_of_ble_eq_true rfl⟩ ⟨Nat.zero_le _, Nat.zero_le _⟩ (Nat.zero_le _) dX0_item_10 (fun _ => ?_)
  rw [(is5 so hk).2.1]
  refine tw_if_ne (a := ()) (b := ()) (z := ()) (tgt := 18) X dX0_item_13 rfl (ite_self _) (fun z _ => absurd z (by decide)) (fun _ _ => ?_)
  refine tw_aload_n X dX0_item_18 rfl 0 rfl ?_
  refine tw_aload_n X dX0_item_19 rfl 0 rfl ?_
  refine kgX0_136_0 X dX0_item_20 ?_
  refine tw_iload_n X dX0_item_23 rfl 1 rfl ?_
  refine tr_sheet X hi dX0_item_24 ?_
  refine tr_getS X hi dX0_item_25 ?_
  refine tw_iload_n X dX0_item_28 rfl 2 rfl ?_
  refine tw_iload_n X dX0_item_29 rfl 3 rfl ?_
  refine tx_callV (n := 3) (b := K 0) (As := [va_rf (ρ 3 i), .int (nI so), .int j]) (st := []) Y (kx_itemOfX hl hk hu j) kGX0_552 kI_X0_itemOf ⟨Nat.le_of_ble_eq_true rfl, Nat.le_of_ble_eq_true rfl⟩ ⟨Nat.le_of_ble_eq_true rfl, Nat.le_of_ble_eq_true rfl⟩ 0 rfl rfl rfl rfl (Nat.zero_le _) dX0_item_30 (fun E x t h => ?_) (fun w t h => h.elim)
  have u2 : ¬ u = 2 := by
    rcases hu with ⟨_, _, _, _, _, _, z⟩ | ⟨_, _, _, _, _, _, _, _, z⟩ | ⟨_, _, _, _, _, _, _, z⟩ | ⟨_, z⟩ <;> cases z <;> decide
  refine tx_catch3 Y htab (fun _ _ => rfl) h (fun z q => ?_) (fun z q => ?_) (fun z => absurd z u2)
  · refine tw_astore (lv' := [(4, .ref q), (0, .ref (K 0)), (1, .int (nI i)), (2, .int (nI so)), (3, .int j)]) X dX0_item_34 (by decide) rfl ?_
    refine tw_bipush (v := -13) X dX0_item_36 rfl ?_
    exact tx_iret X hr (Nat.le_refl _) (Nat.le_refl _) (fun t b => by have := h0 t b; rw [if_pos z] at this; exact this) dX0_item_38
  · refine tw_astore (lv' := [(4, .ref q), (0, .ref (K 0)), (1, .int (nI i)), (2, .int (nI so)), (3, .int j)]) X dX0_item_39 (by decide) rfl ?_
    refine tw_bipush (v := -11) X dX0_item_41 rfl ?_
    exact tx_iret X hr (Nat.le_refl _) (Nat.le_refl _) (fun t b => by have := h0 t b; rw [if_neg (by omega)] at this; exact this) dX0_item_43
theorem kx_item_ok (hl : l.stackTraces = false) {i so q N : Nat} {f : Nat → Int32} {j : Int32} {Rr : Option Value → State → Prop} (hi : i < 4) (hk : so < 5) (hρ : ρ 3 i = some q) (hm : (q, shE δ so N f) ∈ dy) (hN : N ≤ 40) (h0 : kF_isIn j 0 (nI N - 1) = 0 → ∀ t, BW D vwCl A (kW K δ sr ρ dy) (up2 g 35 0 (-12)) t → Rr (some (.int (-12))) t) (h1 : ∀ n, n < N → j = nI n → ∀ t, BW D vwCl A (kW K δ sr ρ dy) g t → Rr (some (.int (shGet so (f n)))) t) : CXW l yX0_item cX0_item 5 (some .int) hhItem 10 10330 3 1010 D vwCl (kT δ) A aK aV (kW K δ sr ρ dy) [.ref (K 0), .int (nI i), .int (nI so), .int j] g Rr (fun _ _ _ => False) := by
  refine cxW_intro (own := RX0) (lv0 := [(0, .ref (K 0)), (1, .int (nI i)), (2, .int (nI so)), (3, .int j)]) (by decide) rfl (Nat.le_of_ble_eq_true rfl) rfl ?_
  intro p e s m args below meth c Y hr htab
  have X := Y.x
  refine tw_iload_n X dX0_item_0 rfl 1 rfl ?_
  refine tp_isShelf X ⟨Nat.le_of_ble_eq_true rfl, Nat.le_of_ble_eq_true rfl⟩ ⟨Nat.zero_le _, Nat.zero_le _⟩ (Nat.zero_le _) dX0_item_1 (fun _ => ?_)
  rw [is4 i hi]
  refine tw_if_eq (a := ()) (b := ()) (z := ()) (tgt := 16) X dX0_item_4 rfl (ite_self _) (fun z _ => absurd z (by decide)) (fun _ _ => ?_)
  refine tw_iload_n X dX0_item_7 rfl 2 rfl ?_
  refine tw_iconst (v := 0) X dX0_item_8 rfl ?_
  refine tw_iconst (v := 4) X dX0_item_9 rfl ?_
  refine tp_isIn X ⟨Nat.le_of_ble_eq_true rfl, Nat.le_of_ble_eq_true rfl⟩ ⟨Nat.zero_le _, Nat.zero_le _⟩ (Nat.zero_le _) dX0_item_10 (fun _ => ?_)
  rw [(is5 so hk).2.1]
  refine tw_if_ne (a := ()) (b := ()) (z := ()) (tgt := 18) X dX0_item_13 rfl (ite_self _) (fun z _ => absurd z (by decide)) (fun _ _ => ?_)
  refine tw_aload_n X dX0_item_18 rfl 0 rfl ?_
  refine tw_aload_n X dX0_item_19 rfl 0 rfl ?_
  refine kgX0_136_0 X dX0_item_20 ?_
  refine tw_iload_n X dX0_item_23 rfl 1 rfl ?_
  refine tr_sheet X hi dX0_item_24 ?_
  refine tr_getS X hi dX0_item_25 ?_
  rw [hρ]
  refine tw_iload_n X dX0_item_28 rfl 2 rfl ?_
  refine tw_iload_n X dX0_item_29 rfl 3 rfl ?_
  refine tx_callV (n := 3) (b := K 0) (As := [.ref q, .int (nI so), .int j]) (st := []) Y (kx_itemOf hl hk hm hN j) kGX0_552 kI_X0_itemOf ⟨Nat.le_of_ble_eq_true rfl, Nat.le_of_ble_eq_true rfl⟩ ⟨Nat.le_of_ble_eq_true rfl, Nat.le_of_ble_eq_true rfl⟩ 0 rfl rfl rfl rfl (Nat.zero_le _) dX0_item_30 (fun E x t h => ?_) (fun w t h => ?_)
  · refine tx_catch3 Y htab (fun _ _ => rfl) h.2 (fun z => by cases z) (fun z => by cases z) (fun z => ?_)
    refine tw_astore (lv' := [(4, .ref (K 1)), (0, .ref (K 0)), (1, .int (nI i)), (2, .int (nI so)), (3, .int j)]) X dX0_item_44 (by decide) rfl ?_
    refine tw_aload X dX0_item_46 0 rfl ?_
    refine kg_ansR X dX0_item_48 ?_
    rw [up35]
    exact tx_iret X hr (Nat.le_refl _) (Nat.le_refl _) (fun t b => h0 h.1 t b) dX0_item_51
  · obtain ⟨n, hn, hj, rfl, hb⟩ := h
    refine TW.at ?_ hb
    exact tx_iret X hr (Nat.le_refl _) (Nat.le_refl _) (fun t b => h1 n hn hj t b) dX0_item_33
end KHD
