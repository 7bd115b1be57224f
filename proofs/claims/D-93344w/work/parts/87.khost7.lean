/-! the host: makeAll, wouldCost -/
set_option maxRecDepth 100000
theorem i32_ss (a b c : Int32) : a - b - c = a - (b + c) := Int32.sub_sub a b c
theorem rng_in {i : Int32} {N k : Nat} (hN : N ≤ 40) (hk : k ≤ 20) (h1 : ¬ i < 0) (h2 : ¬ nI N - 1 - nI k < i) : ∃ j, i = nI j ∧ j + k < N := by
  obtain ⟨j, hj, rfl⟩ := nI_of h1
  rw [i32_ss, show (1 : Int32) = nI 1 from rfl, nI_add] at h2
  refine ⟨j, rfl, ?_⟩
  by_cases q : 1 + k ≤ N
  · rw [pk_sub q, nI_ltI (by omega) hj] at h2
    omega
  · exfalso
    apply h2
    have := pk_sneg (a := N) (b := 1 + k) (by omega) (by omega)
    rw [Int32.lt_iff_toInt_lt] at this ⊢
    rw [nI_toInt hj]
    have e0 : (0 : Int32).toInt = 0 := by decide
    omega
/-- the loop of makeAll -/
noncomputable def mkF (E : EE) (f : Nat → Int32) (N : Nat) (i : Int32) : Nat → Nat → Int32 → St → Option (Int32 × St)
  | 0, _, came, g => some (came, g)
  | m + 1, k, came, g => if i < 0 ∨ nI N - 1 - nI k < i then some (-12, up2 g 35 0 (-12)) else
    (kF_isChange g (f (i.toNatClampNeg + k))).bind fun z => if z = 0 then mkF E f N i m (k + 1) came g else
      (kF_can E g (f (i.toNatClampNeg + k))).bind fun r => if r.1 = 0 then mkF E f N i m (k + 1) came r.2 else
        (kF_makes E r.2 (f (i.toNatClampNeg + k))).bind fun r2 => mkF E f N i m (k + 1) (came + (if r2.1 < 0 then 0 else 1)) r2.2
/-- the loop of wouldCost -/
noncomputable def wcF (E : EE) (f : Nat → Int32) (N : Nat) (i : Int32) : Nat → Nat → Int32 → St → Option (Int32 × St)
  | 0, _, cost, g => some (cost, g)
  | m + 1, k, cost, g => if i < 0 ∨ nI N - 1 - nI k < i then some (-12, up2 g 35 0 (-12)) else
    (kF_isChange g (f (i.toNatClampNeg + k))).bind fun z => if z = 0 then some (-4, up2 g 35 0 (-4)) else
      (kF_can E g (f (i.toNatClampNeg + k))).bind fun r => if r.1 = 0 then some (-4, up2 r.2 35 0 (-4)) else
        (kF_carry E r.2 (f (i.toNatClampNeg + k))).bind fun r2 => wcF E f N i m (k + 1) (cost + r2.1) r2.2
theorem bd_some {α β : Type} {o : Option α} {k : α → Option β} {r : β} (h : o.bind k = some r) : ∃ a, o = some a ∧ k a = some r := by
  cases o with
  | none => cases h
  | some a => exact ⟨a, rfl, h⟩
section KHG
variable {p : Program} {l : Launch} {e0 : Env} {R : Room} {s : State} {m : MethodId} {args : Array Value} {below : List Frame} {meth : Method} {c : Code} {Q : State → Prop} {D : va_G} {A : Nat → Prop} {nL ce sl : Nat} {g : St} {pc : Nat} {lv : List (Nat × Value)} {st : List Value} {cc : ByteArray} {own : String} {K : Nat → Nat} {δ : Nat → ClassId} {sr ρ : Rf} {dy d1 d2 : va_W} {aK aV : Nat → Nat}
abbrev hhMakeAll : List (Nat × Nat × Nat × Nat) := [((19 : Nat), (137 : Nat), (138 : Nat), (556 : Nat)), ((19 : Nat), (137 : Nat), (143 : Nat), (558 : Nat)), ((19 : Nat), (137 : Nat), (148 : Nat), (8 : Nat))]
abbrev hhWould : List (Nat × Nat × Nat × Nat) := [((30 : Nat), (150 : Nat), (164 : Nat), (556 : Nat)), ((30 : Nat), (150 : Nat), (184 : Nat), (558 : Nat)), ((30 : Nat), (150 : Nat), (204 : Nat), (8 : Nat)), ((30 : Nat), (150 : Nat), (227 : Nat), (0 : Nat)), ((164 : Nat), (170 : Nat), (227 : Nat), (0 : Nat)), ((184 : Nat), (190 : Nat), (227 : Nat), (0 : Nat)), ((204 : Nat), (213 : Nat), (227 : Nat), (0 : Nat)), ((227 : Nat), (229 : Nat), (227 : Nat), (0 : Nat))]
theorem is20 : ∀ n, n ≤ 20 → kF_isIn (nI n) 0 20 = 1 := by
  have : ∀ n, n < 21 → kF_isIn (nI n) 0 20 = 1 := by
    unfold kF_isIn
    decide
  exact fun n h => this n (by omega)
theorem kx_makeAll_bad {i j n : Int32} (h : kF_isShelf i = 0 ∨ kF_isIn n 0 20 = 0) : CXW l yX0_makeAll cX0_makeAll 9 (some .int) hhMakeAll 235 10400 70 22500 D vwCl (kT δ) A aK aV (kW K δ sr ρ dy) [.ref (K 0), .int i, .int j, .int n] g (SA D A K δ sr ρ dy g (-1)) (fun _ _ _ => False) := by
  refine cxW_intro (own := RX0) (lv0 := [(0, .ref (K 0)), (1, .int i), (2, .int j), (3, .int n)]) (by decide) rfl (Nat.le_of_ble_eq_true rfl) rfl ?_
  intro p e s m args below meth c Y hr htab
  have X := Y.x
  have bad : TW p l e (romX 235 10400 70 22500) s m args below meth c (vx_MQ below (QO A (SA D A K δ sr ρ dy g (-1))) (XO A (fun _ _ _ => False)) args s 70 22500 A) D vwCl A (kW K δ sr ρ dy) 9 0 0 g 17 [(0, .ref (K 0)), (1, .int i), (2, .int j), (3, .int n)] [] := by
    refine tw_iconst (v := -1) X dX0_makeAll_17 rfl ?_
    exact tx_iret X hr (Nat.zero_le _) (Nat.zero_le _) (fun t b => ⟨rfl, b⟩) dX0_makeAll_18
  refine tw_iload_n X dX0_makeAll_0 rfl 1 rfl ?_
  refine tp_isShelf X ⟨Nat.le_of_ble_eq_true rfl, Nat.le_of_ble_eq_true rfl⟩ ⟨Nat.zero_le _, Nat.zero_le _⟩ (Nat.zero_le _) dX0_makeAll_1 (fun _ => ?_)
  refine tw_if_eq (a := ()) (b := ()) (z := ()) (tgt := 17) X dX0_makeAll_4 rfl (ite_self _) (fun _ _ => bad) (fun z1 _ => ?_)
  refine tw_iload_n X dX0_makeAll_7 rfl 3 rfl ?_
  refine tw_iconst (v := 0) X dX0_makeAll_8 rfl ?_
  refine tw_bipush (v := 20) X dX0_makeAll_9 rfl ?_
  refine tp_isIn X ⟨Nat.le_of_ble_eq_true rfl, Nat.le_of_ble_eq_true rfl⟩ ⟨Nat.zero_le _, Nat.zero_le _⟩ (Nat.zero_le _) dX0_makeAll_11 (fun _ => ?_)
  exact tw_if_ne (a := ()) (b := ()) (z := ()) (tgt := 19) X dX0_makeAll_14 rfl (ite_self _) (fun _ _ => bad) (fun z2 _ => absurd (h.resolve_left z1) z2)
theorem kx_wouldCost_bad {i j n : Int32} (h : kF_isShelf i = 0 ∨ kF_isIn n 0 20 = 0) : CXW l yX0_wouldCost cX0_wouldCost 10 (some .int) hhWould 235 10400 70 22500 D vwCl (kT δ) A aK aV (kW K δ sr ρ dy) [.ref (K 0), .int i, .int j, .int n] g (SA D A K δ sr ρ dy g (-1)) (fun _ _ _ => False) := by
  refine cxW_intro (own := RX0) (lv0 := [(0, .ref (K 0)), (1, .int i), (2, .int j), (3, .int n)]) (by decide) rfl (Nat.le_of_ble_eq_true rfl) rfl ?_
  intro p e s m args below meth c Y hr htab
  have X := Y.x
  have bad : TW p l e (romX 235 10400 70 22500) s m args below meth c (vx_MQ below (QO A (SA D A K δ sr ρ dy g (-1))) (XO A (fun _ _ _ => False)) args s 70 22500 A) D vwCl A (kW K δ sr ρ dy) 10 0 0 g 17 [(0, .ref (K 0)), (1, .int i), (2, .int j), (3, .int n)] [] := by
    refine tw_iconst (v := -1) X dX0_wouldCost_17 rfl ?_
    exact tx_iret X hr (Nat.zero_le _) (Nat.zero_le _) (fun t b => ⟨rfl, b⟩) dX0_wouldCost_18
  refine tw_iload_n X dX0_wouldCost_0 rfl 1 rfl ?_
  refine tp_isShelf X ⟨Nat.le_of_ble_eq_true rfl, Nat.le_of_ble_eq_true rfl⟩ ⟨Nat.zero_le _, Nat.zero_le _⟩ (Nat.zero_le _) dX0_wouldCost_1 (fun _ => ?_)
  refine tw_if_eq (a := ()) (b := ()) (z := ()) (tgt := 17) X dX0_wouldCost_4 rfl (ite_self _) (fun _ _ => bad) (fun z1 _ => ?_)
  refine tw_iload_n X dX0_wouldCost_7 rfl 3 rfl ?_
  refine tw_iconst (v := 0) X dX0_wouldCost_8 rfl ?_
  refine tw_bipush (v := 20) X dX0_wouldCost_9 rfl ?_
  refine tp_isIn X ⟨Nat.le_of_ble_eq_true rfl, Nat.le_of_ble_eq_true rfl⟩ ⟨Nat.zero_le _, Nat.zero_le _⟩ (Nat.zero_le _) dX0_wouldCost_11 (fun _ => ?_)
  exact tw_if_ne (a := ()) (b := ()) (z := ()) (tgt := 19) X dX0_wouldCost_14 rfl (ite_self _) (fun _ _ => bad) (fun z2 _ => absurd (h.resolve_left z1) z2)
theorem kx_makeAll_x (hl : l.stackTraces = false) {s0 n u : Nat} {i : Int32} (hs : s0 < 4) (hn : n ≤ 20) (hu : RVs δ dy (va_rf (ρ 3 s0)) 0 (.inr u)) : CXW l yX0_makeAll cX0_makeAll 9 (some .int) hhMakeAll 235 10400 70 22500 D vwCl (kT δ) A aK aV (kW K δ sr ρ dy) [.ref (K 0), .int (nI s0), .int i, .int (nI n)] g (SA D A K δ sr ρ dy g (if u = 0 then -13 else -11)) (fun _ _ _ => False) := by
  refine cxW_intro (own := RX0) (lv0 := [(0, .ref (K 0)), (1, .int (nI s0)), (2, .int i), (3, .int (nI n))]) (by decide) rfl (Nat.le_of_ble_eq_true rfl) rfl ?_
  intro p e s m args below meth c Y hr htab
  have X := Y.x
  refine tw_iload_n X dX0_makeAll_0 rfl 1 rfl ?_
  refine tp_isShelf X ⟨Nat.le_of_ble_eq_true rfl, Nat.le_of_ble_eq_true rfl⟩ ⟨Nat.zero_le _, Nat.zero_le _⟩ (Nat.zero_le _) dX0_makeAll_1 (fun _ => ?_)
  rw [is4 s0 hs]
  refine tw_if_eq (a := ()) (b := ()) (z := ()) (tgt := 17) X dX0_makeAll_4 rfl (ite_self _) (fun z _ => absurd z (by decide)) (fun _ _ => ?_)
  refine tw_iload_n X dX0_makeAll_7 rfl 3 rfl ?_
  refine tw_iconst (v := 0) X dX0_makeAll_8 rfl ?_
  refine tw_bipush (v := 20) X dX0_makeAll_9 rfl ?_
  refine tp_isIn X ⟨Nat.le_of_ble_eq_true rfl, Nat.le_of_ble_eq_true rfl⟩ ⟨Nat.zero_le _, Nat.zero_le _⟩ (Nat.zero_le _) dX0_makeAll_11 (fun _ => ?_)
  rw [is20 n hn]
  refine tw_if_ne (a := ()) (b := ()) (z := ()) (tgt := 19) X dX0_makeAll_14 rfl (ite_self _) (fun z _ => absurd z (by decide)) (fun _ _ => ?_)
  refine tw_aload_n X dX0_makeAll_19 rfl 0 rfl ?_
  refine kgX0_136_0 X dX0_makeAll_20 ?_
  refine tw_iload_n X dX0_makeAll_23 rfl 1 rfl ?_
  refine tr_sheet X hs dX0_makeAll_24 ?_
  refine tr_getS X hs dX0_makeAll_25 ?_
  refine tw_astoreV (v := va_rf (ρ 3 s0)) (lv' := (4, va_rf (ρ 3 s0)) :: [(0, .ref (K 0)), (1, .int (nI s0)), (2, .int i), (3, .int (nI n))]) X (rf_v _) dX0_makeAll_28 (by decide) rfl ?_
  refine tw_aloadV X (rf_v _) dX0_makeAll_30 0 rfl ?_
  refine tw_iconst (v := 0) X dX0_makeAll_32 rfl ?_
  refine tx_callS (n := 2) (As := [va_rf (ρ 3 s0), .int (nI 0)]) (st := []) Y (kx_manyOf hl (by decide) hu) kGX0_548 kI_X0_manyOf ⟨Nat.le_of_ble_eq_true rfl, Nat.le_of_ble_eq_true rfl⟩ ⟨Nat.le_of_ble_eq_true rfl, Nat.le_of_ble_eq_true rfl⟩ rfl rfl (Nat.zero_le _) dX0_makeAll_33 (fun E x t h => ?_) (fun w t h => ?_)
  · obtain ⟨u', h1, hx⟩ := h
    cases h1
    have u2 : ¬ u = 2 := by
      rcases hu with ⟨_, _, _, _, _, _, z⟩ | ⟨_, _, _, _, _, _, _, _, z⟩ | ⟨_, _, _, _, _, _, _, z⟩ | ⟨_, z⟩ <;> cases z <;> decide
    refine tx_catch3 Y htab (fun _ _ => rfl) hx (fun z q => ?_) (fun z q => ?_) (fun z => absurd z u2)
    · refine tw_astoreV (v := .ref q) (lv' := (4, .ref q) :: [(0, .ref (K 0)), (1, .int (nI s0)), (2, .int i), (3, .int (nI n))]) X (Or.inr ⟨_, rfl⟩) dX0_makeAll_138 (by decide) rfl ?_
      refine tw_bipush (v := -13) X dX0_makeAll_140 rfl ?_
      exact tx_iret X hr (Nat.le_of_ble_eq_true rfl) (Nat.le_of_ble_eq_true rfl) (fun t b => ⟨by rw [if_pos z], b⟩) dX0_makeAll_142
    · refine tw_astoreV (v := .ref q) (lv' := (4, .ref q) :: [(0, .ref (K 0)), (1, .int (nI s0)), (2, .int i), (3, .int (nI n))]) X (Or.inr ⟨_, rfl⟩) dX0_makeAll_143 (by decide) rfl ?_
      refine tw_bipush (v := -11) X dX0_makeAll_145 rfl ?_
      exact tx_iret X hr (Nat.le_of_ble_eq_true rfl) (Nat.le_of_ble_eq_true rfl) (fun t b => ⟨by rw [if_neg (by omega)], b⟩) dX0_makeAll_147
  · obtain ⟨N, h1, _⟩ := h
    cases h1
set_option maxHeartbeats 4000000 in
theorem kx_makeAll (hl : l.stackTraces = false) {E : EE} (hE : EOK δ ρ dy E) {s0 n q N : Nat} {f : Nat → Int32} {i : Int32} {r : Int32 × St} (hs : s0 < 4) (hn : n ≤ 20) (hρ : ρ 3 s0 = some q) (hm : (q, shE δ 0 N f) ∈ dy) (hN : N ≤ 40) (hf : mkF E f N i n 0 0 g = some r) : CXW l yX0_makeAll cX0_makeAll 9 (some .int) hhMakeAll 235 10400 70 22500 D vwCl (kT δ) A aK aV (kW K δ sr ρ dy) [.ref (K 0), .int (nI s0), .int i, .int (nI n)] g (SA D A K δ sr ρ dy r.2 r.1) (fun _ _ _ => False) := by
  refine cxW_intro (own := RX0) (lv0 := [(0, .ref (K 0)), (1, .int (nI s0)), (2, .int i), (3, .int (nI n))]) (by decide) rfl (Nat.le_of_ble_eq_true rfl) rfl ?_
  intro p e s m args below meth c Y hr htab
  have X := Y.x
  refine tw_iload_n X dX0_makeAll_0 rfl 1 rfl ?_
  refine tp_isShelf X ⟨Nat.le_of_ble_eq_true rfl, Nat.le_of_ble_eq_true rfl⟩ ⟨Nat.zero_le _, Nat.zero_le _⟩ (Nat.zero_le _) dX0_makeAll_1 (fun _ => ?_)
  rw [is4 s0 hs]
  refine tw_if_eq (a := ()) (b := ()) (z := ()) (tgt := 17) X dX0_makeAll_4 rfl (ite_self _) (fun z _ => absurd z (by decide)) (fun _ _ => ?_)
  refine tw_iload_n X dX0_makeAll_7 rfl 3 rfl ?_
  refine tw_iconst (v := 0) X dX0_makeAll_8 rfl ?_
  refine tw_bipush (v := 20) X dX0_makeAll_9 rfl ?_
  refine tp_isIn X ⟨Nat.le_of_ble_eq_true rfl, Nat.le_of_ble_eq_true rfl⟩ ⟨Nat.zero_le _, Nat.zero_le _⟩ (Nat.zero_le _) dX0_makeAll_11 (fun _ => ?_)
  rw [is20 n hn]
  refine tw_if_ne (a := ()) (b := ()) (z := ()) (tgt := 19) X dX0_makeAll_14 rfl (ite_self _) (fun z _ => absurd z (by decide)) (fun _ _ => ?_)
  refine tw_aload_n X dX0_makeAll_19 rfl 0 rfl ?_
  refine kgX0_136_0 X dX0_makeAll_20 ?_
  refine tw_iload_n X dX0_makeAll_23 rfl 1 rfl ?_
  refine tr_sheet X hs dX0_makeAll_24 ?_
  refine tr_getS X hs dX0_makeAll_25 ?_
  rw [hρ]
  refine tw_astore (lv' := (4, .ref q) :: [(0, .ref (K 0)), (1, .int (nI s0)), (2, .int i), (3, .int (nI n))]) X dX0_makeAll_28 (by decide) rfl ?_
  refine tw_aload X dX0_makeAll_30 0 rfl ?_
  refine tw_iconst (v := 0) X dX0_makeAll_32 rfl ?_
  refine tx_callS (n := 2) (As := [.ref q, .int (nI 0)]) (st := []) Y (kx_manyOf hl (by decide) (Or.inl ⟨q, N, f, rfl, hm, hN, rfl⟩)) kGX0_548 kI_X0_manyOf ⟨Nat.le_of_ble_eq_true rfl, Nat.le_of_ble_eq_true rfl⟩ ⟨Nat.le_of_ble_eq_true rfl, Nat.le_of_ble_eq_true rfl⟩ rfl rfl (Nat.zero_le _) dX0_makeAll_33 (fun E x t h => ?_) (fun w t h => ?_)
  · obtain ⟨u, h1, _⟩ := h
    cases h1
  obtain ⟨N', h1, rfl, hb⟩ := h
  cases h1
  refine TW.at ?_ hb
  refine tw_istore (lv' := (5, .int (nI N)) :: (4, .ref q) :: [(0, .ref (K 0)), (1, .int (nI s0)), (2, .int i), (3, .int (nI n))]) X dX0_makeAll_36 (by decide) rfl ?_
  refine tw_iconst (v := 0) X dX0_makeAll_38 rfl ?_
  refine tw_istore (lv' := (6, .int 0) :: (5, .int (nI N)) :: (4, .ref q) :: [(0, .ref (K 0)), (1, .int (nI s0)), (2, .int i), (3, .int (nI n))]) X dX0_makeAll_39 (by decide) rfl ?_
  refine tw_iconst (v := 0) X dX0_makeAll_41 rfl ?_
  refine tw_istore (lv' := (7, .int (nI 0)) :: (6, .int 0) :: (5, .int (nI N)) :: (4, .ref q) :: [(0, .ref (K 0)), (1, .int (nI s0)), (2, .int i), (3, .int (nI n))]) X dX0_makeAll_42 (by decide) rfl ?_
  have loop : ∀ (mm k : Nat) (came : Int32) (g : St), k + mm = n → mkF E f N i mm k came g = some r → TW p l e (romX 235 10400 70 22500) s m args below meth c (vx_MQ below (QO A (SA D A K δ sr ρ dy r.2 r.1)) (XO A (fun _ _ _ => False)) args s 70 22500 A) D vwCl A (kW K δ sr ρ dy) 9 (3 * k + 3) (1010 * k + 1010) g 44 [(7, .int (nI k)), (6, .int came), (5, .int (nI N)), (4, .ref q), (0, .ref (K 0)), (1, .int (nI s0)), (2, .int i), (3, .int (nI n))] [] := by
    intro mm
    induction mm with
    | zero =>
      intro k came g hk hf
      have hr2 : (came, g) = r := Option.some.inj hf
      refine tw_iload X dX0_makeAll_44 0 rfl ?_
      refine tw_iload_n X dX0_makeAll_46 rfl 7 rfl ?_
      refine tw_icmp_ge (a := ()) (b := ()) (z := ()) (tgt := 135) X dX0_makeAll_47 rfl (ite_self _) (fun _ _ => ?_) (fun z _ => absurd (nI_le (by omega) (by omega)) z)
      refine tw_iload X dX0_makeAll_135 1 rfl ?_
      exact tx_iret X hr (by omega) (by omega) (fun t b => ⟨by rw [← hr2], by rw [← hr2]; exact b⟩) dX0_makeAll_137
    | succ mm ih =>
      intro k came g hk hf
      unfold mkF at hf
      refine tw_iload X dX0_makeAll_44 0 rfl ?_
      refine tw_iload_n X dX0_makeAll_46 rfl 7 rfl ?_
      refine tw_icmp_ge (a := ()) (b := ()) (z := ()) (tgt := 135) X dX0_makeAll_47 rfl (ite_self _) (fun z _ => absurd z (nI_ge (by omega) (by omega))) (fun _ _ => ?_)
      refine tw_aload_n X dX0_makeAll_50 rfl 4 rfl ?_
      have out : (i < 0 ∨ nI N - 1 - nI k < i) → TW p l e (romX 235 10400 70 22500) s m args below meth c (vx_MQ below (QO A (SA D A K δ sr ρ dy r.2 r.1)) (XO A (fun _ _ _ => False)) args s 70 22500 A) D vwCl A (kW K δ sr ρ dy) 9 (3 * k + 3) (1010 * k + 1010) g 70 [(7, .int (nI k)), (6, .int came), (5, .int (nI N)), (4, .ref q), (0, .ref (K 0)), (1, .int (nI s0)), (2, .int i), (3, .int (nI n))] [.ref (K 0)] := by
        intro ho
        rw [if_pos ho] at hf
        have hr2 := Option.some.inj hf
        refine tw_iconst (v := 0) X dX0_makeAll_70 rfl ?_
        refine tw_bipush (v := -12) X dX0_makeAll_71 rfl ?_
        refine tx_callV (n := 2) (b := K 0) (As := [.int 0, .int (-12)]) (st := []) Y (kx_must 0 (-12) (Or.inl rfl)) kGX0_536 kI_X0_must ⟨Nat.le_of_ble_eq_true rfl, Nat.le_of_ble_eq_true rfl⟩ ⟨show 3 * k + 3 + 0 ≤ 70 by omega, show 1010 * k + 1010 + 0 ≤ 22500 by omega⟩ 0 rfl rfl rfl rfl (Nat.zero_le _) dX0_makeAll_73 (fun E x t h => ?_) (fun v t h => absurd rfl h.1)
        refine tx_catch3 Y htab (fun _ _ => rfl) h.2 (fun z => by cases z) (fun z => by cases z) (fun z => ?_)
        refine tw_sub [3, 4, 5, 6, 7] (lv' := (4, .ref q) :: [(0, .ref (K 0)), (1, .int (nI s0)), (2, .int i), (3, .int (nI n))]) rfl ?_
        refine tw_astore (lv' := (4, .ref (K 1)) :: [(0, .ref (K 0)), (1, .int (nI s0)), (2, .int i), (3, .int (nI n))]) X dX0_makeAll_148 (by decide) rfl ?_
        refine tw_aload X dX0_makeAll_150 0 rfl ?_
        refine kg_ansR X dX0_makeAll_152 ?_
        rw [up35]
        exact tx_iret X hr (by omega) (by omega) (fun t b => ⟨by rw [← hr2], by rw [← hr2]; exact b⟩) dX0_makeAll_155
      refine tw_iload_n X dX0_makeAll_51 rfl 6 rfl ?_
      refine tw_if_lt (a := ()) (b := ()) (z := ()) (tgt := 70) X dX0_makeAll_52 rfl (ite_self _) (fun z _ => out (Or.inl z)) (fun z1 _ => ?_)
      refine tw_iload_n X dX0_makeAll_55 rfl 6 rfl ?_
      refine tw_iload X dX0_makeAll_56 2 rfl ?_
      refine tw_iconst (v := 1) X dX0_makeAll_58 rfl ?_
      refine tw_isub X dX0_makeAll_59 ?_
      refine tw_iload X dX0_makeAll_60 0 rfl ?_
      refine tw_isub X dX0_makeAll_62 ?_
      refine tw_icmp_gt (a := ()) (b := ()) (z := ()) (tgt := 70) X dX0_makeAll_63 rfl (ite_self _) (fun z _ => out (Or.inr z)) (fun z2 _ => ?_)
      rw [if_neg (fun z => z.elim z1 z2)] at hf
      obtain ⟨j, rfl, hj⟩ := rng_in hN (by omega) z1 z2
      rw [nI_clamp (by omega)] at hf
      refine tw_iconst (v := 1) X dX0_makeAll_66 rfl ?_
      refine tw_goto (tgt := 71) X dX0_makeAll_67 rfl ?_
      refine tw_bipush (v := -12) X dX0_makeAll_71 rfl ?_
      refine tx_callV (n := 2) (b := K 0) (As := [.int 1, .int (-12)]) (st := []) Y (kx_must 1 (-12) (Or.inr rfl)) kGX0_536 kI_X0_must ⟨Nat.le_of_ble_eq_true rfl, Nat.le_of_ble_eq_true rfl⟩ ⟨show 3 * k + 3 + 0 ≤ 70 by omega, show 1010 * k + 1010 + 0 ≤ 22500 by omega⟩ 0 rfl rfl rfl rfl (Nat.zero_le _) dX0_makeAll_73 (fun E x t h => absurd h.1 (by decide)) (fun v t h => ?_)
      obtain ⟨_, rfl, hb2⟩ := h
      refine TW.at ?_ hb2
      refine tw_aload_n X dX0_makeAll_76 rfl 4 rfl ?_
      refine tw_aload X dX0_makeAll_77 3 rfl ?_
      refine tw_iconst (v := 0) X dX0_makeAll_79 rfl ?_
      refine tw_iload_n X dX0_makeAll_80 rfl 6 rfl ?_
      refine tw_iload X dX0_makeAll_81 0 rfl ?_
      refine tw_iadd X dX0_makeAll_83 ?_
      rw [nI_add]
      refine tx_callV (n := 3) (b := K 0) (As := [.ref q, .int (nI 0), .int (nI (j + k))]) (st := []) Y (kx_itemOf hl (by decide) hm hN (nI (j + k))) kGX0_552 kI_X0_itemOf ⟨Nat.le_of_ble_eq_true rfl, Nat.le_of_ble_eq_true rfl⟩ ⟨show 3 * k + 3 + 0 + 3 ≤ 70 by omega, show 1010 * k + 1010 + 0 + 1010 ≤ 22500 by omega⟩ 0 rfl rfl rfl rfl (Nat.zero_le _) dX0_makeAll_84 (fun E x t h => ?_) (fun v t h => ?_)
      · exfalso
        have h3 := h.1
        unfold kF_isIn at h3
        rw [if_neg (nI_pos (by omega)), nI_m1 (by omega), if_neg (nI_nlt (by omega) (by omega))] at h3
        exact absurd h3 (by decide)
      obtain ⟨j2, hj2, hjj, rfl, hb3⟩ := h
      rw [nI_eq (by omega) (by omega)] at hjj
      subst hjj
      refine TW.at ?_ hb3
      refine tw_istore (lv' := (8, .int (f (j + k))) :: [(7, .int (nI k)), (6, .int came), (5, .int (nI N)), (4, .ref q), (0, .ref (K 0)), (1, .int (nI s0)), (2, .int (nI j)), (3, .int (nI n))]) X dX0_makeAll_87 (by decide) rfl ?_
      refine tw_aload_n X dX0_makeAll_89 rfl 5 rfl ?_
      refine tw_iload X dX0_makeAll_90 0 rfl ?_
      obtain ⟨z, hz, hf⟩ := bd_some hf
      refine tw_callVz (As := [.int (f (j + k))]) (st := []) X (kC_isChange hz) kGX0_376 kI_X0_isChange ⟨Nat.le_of_ble_eq_true rfl, Nat.le_of_ble_eq_true rfl⟩ ⟨show 3 * k + 3 + 0 + 3 ≤ 70 by omega, show 1010 * k + 1010 + 0 + 1010 ≤ 22500 by omega⟩ 0 rfl rfl rfl rfl (Nat.zero_le _) dX0_makeAll_92 (fun _ => ?_)
      have next : ∀ (came : Int32) (g : St) (lv : List (Nat × Value)) (ks : List Nat), lv_pick lv ks = [(7, .int (nI k)), (6, .int came), (5, .int (nI N)), (4, .ref q), (0, .ref (K 0)), (1, .int (nI s0)), (2, .int (nI j)), (3, .int (nI n))] → mkF E f N (nI j) mm (k + 1) came g = some r → TW p l e (romX 235 10400 70 22500) s m args below meth c (vx_MQ below (QO A (SA D A K δ sr ρ dy r.2 r.1)) (XO A (fun _ _ _ => False)) args s 70 22500 A) D vwCl A (kW K δ sr ρ dy) 9 (3 * k + 3 + 0 + 3) (1010 * k + 1010 + 0 + 1010) g 129 lv [] := by
        intro came g lv ks hks hf
        refine tw_sub ks hks ?_
        refine tw_iinc (q := 0) (v := nI (k + 1)) (lv' := [(7, .int (nI (k + 1))), (6, .int came), (5, .int (nI N)), (4, .ref q), (0, .ref (K 0)), (1, .int (nI s0)), (2, .int (nI j)), (3, .int (nI n))]) X dX0_makeAll_129 rfl (nI_1 k) (by decide) rfl ?_
        refine tw_goto (tgt := 44) X dX0_makeAll_132 rfl ?_
        exact tx_widen (by omega) (by omega) (ih (k + 1) came g (by omega) hf)
      refine tw_if_eq (a := ()) (b := ()) (z := ()) (tgt := 129) X dX0_makeAll_95 rfl (ite_self _) (fun w _ => ?_) (fun w _ => ?_)
      · rw [if_pos w] at hf
        exact next came g _ [1, 2, 3, 4, 5, 6, 7, 8] rfl hf
      · rw [if_neg w] at hf
        obtain ⟨r1, hr1, hf⟩ := bd_some hf
        refine tw_aload_n X dX0_makeAll_98 rfl 5 rfl ?_
        refine tw_iload X dX0_makeAll_99 0 rfl ?_
        refine tw_callVz (As := [.int (f (j + k))]) (st := []) X (kC_can hE hr1) kGX0_389 kI_X0_can ⟨Nat.le_of_ble_eq_true rfl, Nat.le_of_ble_eq_true rfl⟩ ⟨show 3 * k + 3 + 0 + 3 ≤ 70 by omega, show 1010 * k + 1010 + 0 + 1010 ≤ 22500 by omega⟩ 0 rfl rfl rfl rfl (Nat.zero_le _) dX0_makeAll_101 (fun _ => ?_)
        refine tw_if_ne (a := ()) (b := ()) (z := ()) (tgt := 110) X dX0_makeAll_104 rfl (ite_self _) (fun w2 _ => ?_) (fun w2 _ => ?_)
        · rw [if_pos w2] at hf
          refine tw_goto (tgt := 129) X dX0_makeAll_107 rfl ?_
          exact next came r1.2 _ [1, 2, 3, 4, 5, 6, 7, 8] rfl hf
        · rw [if_neg w2] at hf
          obtain ⟨r2, hr2, hf⟩ := bd_some hf
          refine tw_iload X dX0_makeAll_110 2 rfl ?_
          refine tw_aload_n X dX0_makeAll_112 rfl 5 rfl ?_
          refine tw_iload X dX0_makeAll_113 0 rfl ?_
          refine tw_callVi (As := [.int (f (j + k))]) (st := [.int came]) X (kC_makes hE hr2) kGX0_398 kI_X0_makes ⟨Nat.le_of_ble_eq_true rfl, Nat.le_of_ble_eq_true rfl⟩ ⟨show 3 * k + 3 + 0 + 3 ≤ 70 by omega, show 1010 * k + 1010 + 0 + 1010 ≤ 22500 by omega⟩ 0 rfl rfl rfl rfl (Nat.le_of_ble_eq_true rfl) dX0_makeAll_115 ?_
          refine tw_if_ge (a := ()) (b := ()) (z := ()) (tgt := 125) X dX0_makeAll_118 rfl (ite_self _) (fun w3 _ => ?_) (fun w3 _ => ?_)
          · rw [if_neg (fun z => by rw [Int32.lt_iff_toInt_lt] at z; rw [Int32.le_iff_toInt_le] at w3; omega)] at hf
            refine tw_iconst (v := 1) X dX0_makeAll_125 rfl ?_
            refine tw_iadd X dX0_makeAll_126 ?_
            refine tw_istore (lv' := (6, .int (came + 1)) :: (8, .int (f (j + k))) :: [(7, .int (nI k)), (5, .int (nI N)), (4, .ref q), (0, .ref (K 0)), (1, .int (nI s0)), (2, .int (nI j)), (3, .int (nI n))]) X dX0_makeAll_127 (by decide) rfl ?_
            exact next (came + 1) r2.2 _ [2, 0, 3, 4, 5, 6, 7, 8] rfl hf
          · rw [if_pos (by rw [Int32.lt_iff_toInt_lt]; rw [Int32.le_iff_toInt_le] at w3; omega)] at hf
            refine tw_iconst (v := 0) X dX0_makeAll_121 rfl ?_
            refine tw_goto (tgt := 126) X dX0_makeAll_122 rfl ?_
            refine tw_iadd X dX0_makeAll_126 ?_
            refine tw_istore (lv' := (6, .int (came + 0)) :: (8, .int (f (j + k))) :: [(7, .int (nI k)), (5, .int (nI N)), (4, .ref q), (0, .ref (K 0)), (1, .int (nI s0)), (2, .int (nI j)), (3, .int (nI n))]) X dX0_makeAll_127 (by decide) rfl ?_
            exact next (came + 0) r2.2 _ [2, 0, 3, 4, 5, 6, 7, 8] rfl hf
  exact tx_widen (by omega) (by omega) (loop n 0 0 g (by omega) hf)
end KHG
