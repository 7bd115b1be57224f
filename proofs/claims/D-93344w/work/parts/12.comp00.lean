/-! THE COMPONENT's METHODS (printed by gen/mk_comp.py) -/
set_option maxRecDepth 100000
noncomputable def kF_isIn (a1 : Int32) (a2 : Int32) (a3 : Int32) : Int32 :=
  if a1 < a2 then
    (0 : Int32)
  else
    if a3 < a1 then
      (0 : Int32)
    else
      (1 : Int32)
set_option maxHeartbeats 4000000 in
theorem kC_isIn {l : Launch} {D : va_G} {A : Nat → Prop} {K : Nat → Nat} {δ : Nat → ClassId} {sr ρ : Rf} {dy : va_W} {g : St} (a1 : Int32) (a2 : Int32) (a3 : Int32) : Ct l yX0_isIn cX0_isIn 3 (some .boolean) 0 0 D vwCl (kT δ) A (kW K δ sr ρ dy) [.int a1, .int a2, .int a3] g (QZ D vwCl A (kW K δ sr ρ dy) (kF_isIn a1 a2 a3) g) := by
  generalize hf : kF_isIn a1 a2 a3 = z
  unfold kF_isIn at hf
  refine ct_intro (own := RX0) (lv0 := [(0, .int a1), (1, .int a2), (2, .int a3)]) (by decide) rfl (Nat.le_of_ble_eq_true rfl) rfl ?_
  intro p e s m args below meth c X hr
  refine tw_iload_n X dX0_isIn_0 rfl 0 rfl ?_
  refine tw_iload_n X dX0_isIn_1 rfl 1 rfl ?_
  refine tw_icmp_lt (tgt := 14) X dX0_isIn_2 rfl hf (fun q2 hf => ?_) (fun q2 hf => ?_)
  · clear q2
    refine tw_iconst (v := 0) X dX0_isIn_14 rfl ?_
    exact tw_zret X hr (Or.inl rfl) hf rfl dX0_isIn_15
  · clear q2
    refine tw_iload_n X dX0_isIn_5 rfl 0 rfl ?_
    refine tw_iload_n X dX0_isIn_6 rfl 2 rfl ?_
    refine tw_icmp_gt (tgt := 14) X dX0_isIn_7 rfl hf (fun q1 hf => ?_) (fun q1 hf => ?_)
    · clear q1
      refine tw_iconst (v := 0) X dX0_isIn_14 rfl ?_
      exact tw_zret X hr (Or.inl rfl) hf rfl dX0_isIn_15
    · clear q1
      refine tw_iconst (v := 1) X dX0_isIn_10 rfl ?_
      refine tw_goto (tgt := 15) X dX0_isIn_11 rfl ?_
      exact tw_zret X hr (Or.inr rfl) hf rfl dX0_isIn_15
noncomputable def kF_isKind (a1 : Int32) : Int32 :=
  (kF_isIn a1 (1 : Int32) (5 : Int32))
set_option maxHeartbeats 4000000 in
theorem kC_isKind {l : Launch} {D : va_G} {A : Nat → Prop} {K : Nat → Nat} {δ : Nat → ClassId} {sr ρ : Rf} {dy : va_W} {g : St} (a1 : Int32) : Ct l yX0_isKind cX0_isKind 1 (some .boolean) 1 22 D vwCl (kT δ) A (kW K δ sr ρ dy) [.int a1] g (QZ D vwCl A (kW K δ sr ρ dy) (kF_isKind a1) g) := by
  generalize hf : kF_isKind a1 = z
  unfold kF_isKind at hf
  refine ct_intro (own := RX0) (lv0 := [(0, .int a1)]) (by decide) rfl (Nat.le_of_ble_eq_true rfl) rfl ?_
  intro p e s m args below meth c X hr
  refine tw_iload_n X dX0_isKind_0 rfl 0 rfl ?_
  refine tw_iconst (v := 1) X dX0_isKind_1 rfl ?_
  refine tw_iconst (v := 5) X dX0_isKind_2 rfl ?_
  refine tw_callSz (As := [.int a1, .int (1 : Int32), .int (5 : Int32)]) (st := []) X (kC_isIn (g := g) a1 (1 : Int32) (5 : Int32)) kGX0_149 kI_X0_isIn ⟨Nat.le_of_ble_eq_true rfl, Nat.le_of_ble_eq_true rfl⟩ ⟨Nat.zero_le _, Nat.zero_le _⟩ rfl rfl (Nat.le_of_ble_eq_true rfl) dX0_isKind_3 ?_
  intro hb1
  exact tw_zret X hr hb1 hf rfl dX0_isKind_6
noncomputable def kF_isThing (a1 : Int32) : Int32 :=
  (kF_isIn a1 (0 : Int32) (7 : Int32))
set_option maxHeartbeats 4000000 in
theorem kC_isThing {l : Launch} {D : va_G} {A : Nat → Prop} {K : Nat → Nat} {δ : Nat → ClassId} {sr ρ : Rf} {dy : va_W} {g : St} (a1 : Int32) : Ct l yX0_isThing cX0_isThing 1 (some .boolean) 1 22 D vwCl (kT δ) A (kW K δ sr ρ dy) [.int a1] g (QZ D vwCl A (kW K δ sr ρ dy) (kF_isThing a1) g) := by
  generalize hf : kF_isThing a1 = z
  unfold kF_isThing at hf
  refine ct_intro (own := RX0) (lv0 := [(0, .int a1)]) (by decide) rfl (Nat.le_of_ble_eq_true rfl) rfl ?_
  intro p e s m args below meth c X hr
  refine tw_iload_n X dX0_isThing_0 rfl 0 rfl ?_
  refine tw_iconst (v := 0) X dX0_isThing_1 rfl ?_
  refine tw_bipush (v := 7) X dX0_isThing_2 rfl ?_
  refine tw_callSz (As := [.int a1, .int (0 : Int32), .int (7 : Int32)]) (st := []) X (kC_isIn (g := g) a1 (0 : Int32) (7 : Int32)) kGX0_149 kI_X0_isIn ⟨Nat.le_of_ble_eq_true rfl, Nat.le_of_ble_eq_true rfl⟩ ⟨Nat.zero_le _, Nat.zero_le _⟩ rfl rfl (Nat.le_of_ble_eq_true rfl) dX0_isThing_4 ?_
  intro hb1
  exact tw_zret X hr hb1 hf rfl dX0_isThing_7
noncomputable def kF_isTold (a1 : Int32) (a2 : Int32) : Int32 :=
  if a1 = (1 : Int32) then
    (kF_isThing a2)
  else if a1 = (2 : Int32) then
    (kF_isThing a2)
  else 
    if a1 = (3 : Int32) then
      if (kF_isIn a2 (0 : Int32) (999 : Int32)) = 0 then
        (0 : Int32)
      else
        (1 : Int32)
    else
      (0 : Int32)
set_option maxHeartbeats 4000000 in
theorem kC_isTold {l : Launch} {D : va_G} {A : Nat → Prop} {K : Nat → Nat} {δ : Nat → ClassId} {sr ρ : Rf} {dy : va_W} {g : St} (a1 : Int32) (a2 : Int32) : Ct l yX0_isTold cX0_isTold 2 (some .boolean) 2 42 D vwCl (kT δ) A (kW K δ sr ρ dy) [.int a1, .int a2] g (QZ D vwCl A (kW K δ sr ρ dy) (kF_isTold a1 a2) g) := by
  generalize hf : kF_isTold a1 a2 = z
  unfold kF_isTold at hf
  refine ct_intro (own := RX0) (lv0 := [(0, .int a1), (1, .int a2)]) (by decide) rfl (Nat.le_of_ble_eq_true rfl) rfl ?_
  intro p e s m args below meth c X hr
  refine tw_iload_n X dX0_isTold_0 rfl 0 rfl ?_
  by_cases w2 : a1 = (1 : Int32)
  · rw [if_pos w2] at hf
    refine tw_lookup (off := 27) (tgt := 28) X dX0_isTold_1 (by decide) (by rw [w2]; decide) rfl ?_
    refine tw_iload_n X dX0_isTold_28 rfl 1 rfl ?_
    refine tw_callSz (As := [.int a2]) (st := []) X (kC_isThing (g := g) a2) kGX0_153 kI_X0_isThing ⟨Nat.le_of_ble_eq_true rfl, Nat.le_of_ble_eq_true rfl⟩ ⟨Nat.zero_le _, Nat.zero_le _⟩ rfl rfl (Nat.le_of_ble_eq_true rfl) dX0_isTold_29 ?_
    intro hb1
    exact tw_zret X hr hb1 hf rfl dX0_isTold_32
  · rw [if_neg w2] at hf
    by_cases w4 : a1 = (2 : Int32)
    · rw [if_pos w4] at hf
      refine tw_lookup (off := 27) (tgt := 28) X dX0_isTold_1 (by decide) (by rw [w4]; decide) rfl ?_
      refine tw_iload_n X dX0_isTold_28 rfl 1 rfl ?_
      refine tw_callSz (As := [.int a2]) (st := []) X (kC_isThing (g := g) a2) kGX0_153 kI_X0_isThing ⟨Nat.le_of_ble_eq_true rfl, Nat.le_of_ble_eq_true rfl⟩ ⟨Nat.zero_le _, Nat.zero_le _⟩ rfl rfl (Nat.le_of_ble_eq_true rfl) dX0_isTold_29 ?_
      intro hb3
      exact tw_zret X hr hb3 hf rfl dX0_isTold_32
    · rw [if_neg w4] at hf
      refine tw_lookup (off := 32) (tgt := 33) X dX0_isTold_1 (by decide) (by show Op.lookupswitch.offset [(1, 27), (2, 27)] 32 _ = _; rw [lv_osw w2 (a := 1) (by decide)]; rw [lv_osw w4 (a := 2) (by decide)]; rfl) rfl ?_
      refine tw_iload_n X dX0_isTold_33 rfl 0 rfl ?_
      refine tw_iconst (v := 3) X dX0_isTold_34 rfl ?_
      refine tw_icmp_ne (tgt := 53) X dX0_isTold_35 rfl hf (fun q7 hf => ?_) (fun q7 hf => ?_)
      · clear q7
        refine tw_iload_n X dX0_isTold_38 rfl 1 rfl ?_
        refine tw_iconst (v := 0) X dX0_isTold_39 rfl ?_
        refine tw_sipush (v := 999) X dX0_isTold_40 rfl ?_
        refine tw_callSz (As := [.int a2, .int (0 : Int32), .int (999 : Int32)]) (st := []) X (kC_isIn (g := g) a2 (0 : Int32) (999 : Int32)) kGX0_149 kI_X0_isIn ⟨Nat.le_of_ble_eq_true rfl, Nat.le_of_ble_eq_true rfl⟩ ⟨Nat.zero_le _, Nat.zero_le _⟩ rfl rfl (Nat.le_of_ble_eq_true rfl) dX0_isTold_43 ?_
        intro hb5
        refine tw_if_eq (tgt := 53) X dX0_isTold_46 rfl hf (fun q6 hf => ?_) (fun q6 hf => ?_)
        · clear q6
          refine tw_iconst (v := 0) X dX0_isTold_53 rfl ?_
          exact tw_zret X hr (Or.inl rfl) hf rfl dX0_isTold_54
        · clear q6
          refine tw_iconst (v := 1) X dX0_isTold_49 rfl ?_
          refine tw_goto (tgt := 54) X dX0_isTold_50 rfl ?_
          exact tw_zret X hr (Or.inr rfl) hf rfl dX0_isTold_54
      · clear q7
        refine tw_iconst (v := 0) X dX0_isTold_53 rfl ?_
        exact tw_zret X hr (Or.inl rfl) hf rfl dX0_isTold_54
noncomputable def kF_isPerson (g : St) (a1 : Int32) : Option (Int32) :=
  some (kF_isIn a1 (0 : Int32) ((g 40 0) - (1 : Int32)))
set_option maxHeartbeats 4000000 in
theorem kC_isPerson {l : Launch} {D : va_G} {A : Nat → Prop} {K : Nat → Nat} {δ : Nat → ClassId} {sr ρ : Rf} {dy : va_W} {g : St} {a1 : Int32} {z : Int32} (hf : kF_isPerson g a1 = some z) : Ct l yX0_isPerson cX0_isPerson 2 (some .boolean) 1 22 D vwCl (kT δ) A (kW K δ sr ρ dy) [.ref (K 0), .int a1] g (QZ D vwCl A (kW K δ sr ρ dy) z g) := by
  unfold kF_isPerson at hf
  refine ct_intro (own := RX0) (lv0 := [(0, .ref (K 0)), (1, .int a1)]) (by decide) rfl (Nat.le_of_ble_eq_true rfl) rfl ?_
  intro p e s m args below meth c X hr
  refine tw_iload_n X dX0_isPerson_0 rfl 1 rfl ?_
  refine tw_iconst (v := 0) X dX0_isPerson_1 rfl ?_
  refine tw_aload_n X dX0_isPerson_2 rfl 0 rfl ?_
  refine kgX0_47_0 X  dX0_isPerson_3 ?_
  refine kgX0_147_3 X  dX0_isPerson_6 ?_
  refine tw_iconst (v := 1) X dX0_isPerson_9 rfl ?_
  refine tw_isub X dX0_isPerson_10 ?_
  refine tw_callSz (As := [.int a1, .int (0 : Int32), .int ((g 40 0) - (1 : Int32))]) (st := []) X (kC_isIn (g := g) a1 (0 : Int32) ((g 40 0) - (1 : Int32))) kGX0_149 kI_X0_isIn ⟨Nat.le_of_ble_eq_true rfl, Nat.le_of_ble_eq_true rfl⟩ ⟨Nat.zero_le _, Nat.zero_le _⟩ rfl rfl (Nat.le_of_ble_eq_true rfl) dX0_isPerson_11 ?_
  intro hb1
  exact tw_zret X hr hb1 (Option.some.inj hf) rfl dX0_isPerson_14
noncomputable def kF_X3_isWhole (g : St) (a1 : Int32) : Option (Int32) :=
  (rd (g 46) 6 a1).bind fun x1 =>
  (rd (g 47) 6 a1).bind fun x2 =>
  if x1 = x2 then
    some (1 : Int32)
  else
    some (0 : Int32)
set_option maxHeartbeats 4000000 in
theorem kC_X3_isWhole {l : Launch} {D : va_G} {A : Nat → Prop} {K : Nat → Nat} {δ : Nat → ClassId} {sr ρ : Rf} {dy : va_W} {g : St} {a1 : Int32} {z : Int32} (hf : kF_X3_isWhole g a1 = some z) : Ct l yX3_isWhole cX3_isWhole 2 (some .boolean) 0 0 D vwCl (kT δ) A (kW K δ sr ρ dy) [.ref (K 3), .int a1] g (QZ D vwCl A (kW K δ sr ρ dy) z g) := by
  unfold kF_X3_isWhole at hf
  refine ct_intro (own := RX3) (lv0 := [(0, .ref (K 3)), (1, .int a1)]) (by decide) rfl (Nat.le_of_ble_eq_true rfl) rfl ?_
  intro p e s m args below meth c X hr
  refine tw_aload_n X dX3_isWhole_0 rfl 0 rfl ?_
  refine kgX3_19_3 X  dX3_isWhole_1 ?_
  refine tw_iload_n X dX3_isWhole_4 rfl 1 rfl ?_
  obtain ⟨x1, hx1, hf⟩ := bnd hf
  refine klX3_46 X hx1 dX3_isWhole_5 ?_
  refine tw_aload_n X dX3_isWhole_6 rfl 0 rfl ?_
  refine kgX3_22_3 X  dX3_isWhole_7 ?_
  refine tw_iload_n X dX3_isWhole_10 rfl 1 rfl ?_
  obtain ⟨x2, hx2, hf⟩ := bnd hf
  refine klX3_47 X hx2 dX3_isWhole_11 ?_
  refine tw_icmp_ne (tgt := 19) X dX3_isWhole_12 rfl hf (fun q3 hf => ?_) (fun q3 hf => ?_)
  · clear q3
    refine tw_iconst (v := 1) X dX3_isWhole_15 rfl ?_
    refine tw_goto (tgt := 20) X dX3_isWhole_16 rfl ?_
    exact tw_zret X hr (Or.inr rfl) (Option.some.inj hf) rfl dX3_isWhole_20
  · clear q3
    refine tw_iconst (v := 0) X dX3_isWhole_19 rfl ?_
    exact tw_zret X hr (Or.inl rfl) (Option.some.inj hf) rfl dX3_isWhole_20
noncomputable def kF_X3_whole (g : St) : Option (Int32) :=
  iter (L := Int32 × Int32) (T := Int32) (un2 fun s1a s1b => 
    if (g 40 0) ≤ s1b then
      some (.inr s1a)
    else
      (kF_X3_isWhole g s1b).bind fun x4 =>
      if x4 = 0 then
        some (.inl ((s1a ||| (0 : Int32)), (s1b + (1 : Int32))))
      else
        some (.inl ((s1a ||| ((1 : Int32) <<< (s1b &&& 31))), (s1b + (1 : Int32))))) ((0 : Int32), (0 : Int32))
set_option maxHeartbeats 4000000 in
theorem kC_X3_whole {l : Launch} {D : va_G} {A : Nat → Prop} {K : Nat → Nat} {δ : Nat → ClassId} {sr ρ : Rf} {dy : va_W} {g : St} {z : Int32} (hf : kF_X3_whole g = some z) : Ct l yX3_whole cX3_whole 3 (some .int) 1 21 D vwCl (kT δ) A (kW K δ sr ρ dy) [.ref (K 3)] g (QI D vwCl A (kW K δ sr ρ dy) z g) := by
  unfold kF_X3_whole at hf
  refine ct_intro (own := RX3) (lv0 := [(0, .ref (K 3))]) (by decide) rfl (Nat.le_of_ble_eq_true rfl) rfl ?_
  intro p e s m args below meth c X hr
  refine tw_iconst (v := 0) X dX3_whole_0 rfl ?_
  refine tw_istore_n (lv' := [(1, .int (0 : Int32)), (0, .ref (K 3))]) X dX3_whole_1 rfl (by decide) rfl ?_
  refine tw_iconst (v := 0) X dX3_whole_2 rfl ?_
  refine tw_istore_n (lv' := [(2, .int (0 : Int32)), (1, .int (0 : Int32)), (0, .ref (K 3))]) X dX3_whole_3 rfl (by decide) rfl ?_
  refine tw_sub [2, 1, 0] (lv' := [(0, .ref (K 3)), (1, .int (0 : Int32)), (2, .int (0 : Int32))]) rfl ?_
  refine it_walk (P := un2 fun s1a s1b => TW p l e (rom 1 21) s m args below meth c (MQ below (QI D vwCl A (kW K δ sr ρ dy) z g) args s 0 0 A) D vwCl A (kW K δ sr ρ dy) 3 0 0 g 4 [(0, .ref (K 3)), (1, .int s1a), (2, .int s1b)] []) hf ?_
  rintro ⟨s1a, s1b⟩ zz8 hf hl2
  dsimp only [un2] at hf ⊢
  refine tw_iload_n X dX3_whole_4 rfl 2 rfl ?_
  refine tw_aload_n X dX3_whole_5 rfl 0 rfl ?_
  refine kgX3_61_3 X  dX3_whole_6 ?_
  refine tw_icmp_ge (tgt := 36) X dX3_whole_9 rfl hf (fun q7 hf => ?_) (fun q7 hf => ?_)
  · clear q7
    refine tw_iload_n X dX3_whole_36 rfl 1 rfl ?_
    have hf3 := leafR hf hl2
    exact tw_iret X hr (Option.some.inj hf3) rfl dX3_whole_37
  · clear q7
    refine tw_iload_n X dX3_whole_12 rfl 1 rfl ?_
    refine tw_aload_n X dX3_whole_13 rfl 0 rfl ?_
    refine tw_iload_n X dX3_whole_14 rfl 2 rfl ?_
    obtain ⟨x4, hx4, hf⟩ := bnd hf
    refine tw_callVz (As := [.int s1b]) (st := [.int s1a]) X (kC_X3_isWhole hx4) kGX3_79 kI_X3_isWhole ⟨Nat.le_of_ble_eq_true rfl, Nat.le_of_ble_eq_true rfl⟩ ⟨Nat.zero_le _, Nat.zero_le _⟩ 3 rfl rfl rfl rfl (Nat.le_of_ble_eq_true rfl) dX3_whole_15 ?_
    intro hb5
    refine tw_if_eq (tgt := 27) X dX3_whole_18 rfl hf (fun q6 hf => ?_) (fun q6 hf => ?_)
    · clear q6
      refine tw_iconst (v := 0) X dX3_whole_27 rfl ?_
      refine tw_ior X dX3_whole_28 ?_
      refine tw_istore_n (lv' := [(1, .int (s1a ||| (0 : Int32))), (0, .ref (K 3)), (2, .int s1b)]) X dX3_whole_29 rfl (by decide) rfl ?_
      refine tw_iinc (q := 2) (v := (s1b + (1 : Int32))) (lv' := [(2, .int (s1b + (1 : Int32))), (1, .int (s1a ||| (0 : Int32))), (0, .ref (K 3))]) X dX3_whole_30 rfl rfl (by decide) rfl ?_
      refine tw_goto (tgt := 4) X dX3_whole_33 rfl ?_
      refine tw_sub [2, 1, 0] (lv' := [(0, .ref (K 3)), (1, .int (s1a ||| (0 : Int32))), (2, .int (s1b + (1 : Int32)))]) rfl ?_
      have hL := leafL hf hl2
      exact hL
    · clear q6
      refine tw_iconst (v := 1) X dX3_whole_21 rfl ?_
      refine tw_iload_n X dX3_whole_22 rfl 2 rfl ?_
      refine tw_ishl X dX3_whole_23 ?_
      refine tw_goto (tgt := 28) X dX3_whole_24 rfl ?_
      refine tw_ior X dX3_whole_28 ?_
      refine tw_istore_n (lv' := [(1, .int (s1a ||| ((1 : Int32) <<< (s1b &&& 31)))), (0, .ref (K 3)), (2, .int s1b)]) X dX3_whole_29 rfl (by decide) rfl ?_
      refine tw_iinc (q := 2) (v := (s1b + (1 : Int32))) (lv' := [(2, .int (s1b + (1 : Int32))), (1, .int (s1a ||| ((1 : Int32) <<< (s1b &&& 31)))), (0, .ref (K 3))]) X dX3_whole_30 rfl rfl (by decide) rfl ?_
      refine tw_goto (tgt := 4) X dX3_whole_33 rfl ?_
      refine tw_sub [2, 1, 0] (lv' := [(0, .ref (K 3)), (1, .int (s1a ||| ((1 : Int32) <<< (s1b &&& 31)))), (2, .int (s1b + (1 : Int32)))]) rfl ?_
      have hL := leafL hf hl2
      exact hL
noncomputable def kF_absentBit (g : St) : Option (Int32) :=
  if 0 ≤ (g 0 15) then
    some ((1 : Int32) <<< ((g 0 15) &&& 31))
  else
    some (0 : Int32)
set_option maxHeartbeats 4000000 in
theorem kC_absentBit {l : Launch} {D : va_G} {A : Nat → Prop} {K : Nat → Nat} {δ : Nat → ClassId} {sr ρ : Rf} {dy : va_W} {g : St} {z : Int32} (hf : kF_absentBit g = some z) : Ct l yX0_absentBit cX0_absentBit 1 (some .int) 0 0 D vwCl (kT δ) A (kW K δ sr ρ dy) [.ref (K 0)] g (QI D vwCl A (kW K δ sr ρ dy) z g) := by
  unfold kF_absentBit at hf
  refine ct_intro (own := RX0) (lv0 := [(0, .ref (K 0))]) (by decide) rfl (Nat.le_of_ble_eq_true rfl) rfl ?_
  intro p e s m args below meth c X hr
  refine tw_aload_n X dX0_absentBit_0 rfl 0 rfl ?_
  refine kgX0_111_0 X  dX0_absentBit_1 ?_
  refine tw_if_ge (tgt := 11) X dX0_absentBit_4 rfl hf (fun q1 hf => ?_) (fun q1 hf => ?_)
  · clear q1
    refine tw_iconst (v := 1) X dX0_absentBit_11 rfl ?_
    refine tw_aload_n X dX0_absentBit_12 rfl 0 rfl ?_
    refine kgX0_111_0 X  dX0_absentBit_13 ?_
    refine tw_ishl X dX0_absentBit_16 ?_
    exact tw_iret X hr (Option.some.inj hf) rfl dX0_absentBit_17
  · clear q1
    refine tw_iconst (v := 0) X dX0_absentBit_7 rfl ?_
    refine tw_goto (tgt := 17) X dX0_absentBit_8 rfl ?_
    exact tw_iret X hr (Option.some.inj hf) rfl dX0_absentBit_17
noncomputable def kF_J3_bitCount (a1 : Int32) : Int32 :=
  ((((((((a1 - (((a1).toUInt32 >>> (((1 : Int32)).toUInt32 &&& Int32.toUInt32 31)).toInt32 &&& (1431655765 : Int32))) &&& (858993459 : Int32)) + ((((a1 - (((a1).toUInt32 >>> (((1 : Int32)).toUInt32 &&& Int32.toUInt32 31)).toInt32 &&& (1431655765 : Int32)))).toUInt32 >>> (((2 : Int32)).toUInt32 &&& Int32.toUInt32 31)).toInt32 &&& (858993459 : Int32))) + (((((a1 - (((a1).toUInt32 >>> (((1 : Int32)).toUInt32 &&& Int32.toUInt32 31)).toInt32 &&& (1431655765 : Int32))) &&& (858993459 : Int32)) + ((((a1 - (((a1).toUInt32 >>> (((1 : Int32)).toUInt32 &&& Int32.toUInt32 31)).toInt32 &&& (1431655765 : Int32)))).toUInt32 >>> (((2 : Int32)).toUInt32 &&& Int32.toUInt32 31)).toInt32 &&& (858993459 : Int32)))).toUInt32 >>> (((4 : Int32)).toUInt32 &&& Int32.toUInt32 31)).toInt32) &&& (252645135 : Int32)) + (((((((a1 - (((a1).toUInt32 >>> (((1 : Int32)).toUInt32 &&& Int32.toUInt32 31)).toInt32 &&& (1431655765 : Int32))) &&& (858993459 : Int32)) + ((((a1 - (((a1).toUInt32 >>> (((1 : Int32)).toUInt32 &&& Int32.toUInt32 31)).toInt32 &&& (1431655765 : Int32)))).toUInt32 >>> (((2 : Int32)).toUInt32 &&& Int32.toUInt32 31)).toInt32 &&& (858993459 : Int32))) + (((((a1 - (((a1).toUInt32 >>> (((1 : Int32)).toUInt32 &&& Int32.toUInt32 31)).toInt32 &&& (1431655765 : Int32))) &&& (858993459 : Int32)) + ((((a1 - (((a1).toUInt32 >>> (((1 : Int32)).toUInt32 &&& Int32.toUInt32 31)).toInt32 &&& (1431655765 : Int32)))).toUInt32 >>> (((2 : Int32)).toUInt32 &&& Int32.toUInt32 31)).toInt32 &&& (858993459 : Int32)))).toUInt32 >>> (((4 : Int32)).toUInt32 &&& Int32.toUInt32 31)).toInt32) &&& (252645135 : Int32))).toUInt32 >>> (((8 : Int32)).toUInt32 &&& Int32.toUInt32 31)).toInt32) + ((((((((a1 - (((a1).toUInt32 >>> (((1 : Int32)).toUInt32 &&& Int32.toUInt32 31)).toInt32 &&& (1431655765 : Int32))) &&& (858993459 : Int32)) + ((((a1 - (((a1).toUInt32 >>> (((1 : Int32)).toUInt32 &&& Int32.toUInt32 31)).toInt32 &&& (1431655765 : Int32)))).toUInt32 >>> (((2 : Int32)).toUInt32 &&& Int32.toUInt32 31)).toInt32 &&& (858993459 : Int32))) + (((((a1 - (((a1).toUInt32 >>> (((1 : Int32)).toUInt32 &&& Int32.toUInt32 31)).toInt32 &&& (1431655765 : Int32))) &&& (858993459 : Int32)) + ((((a1 - (((a1).toUInt32 >>> (((1 : Int32)).toUInt32 &&& Int32.toUInt32 31)).toInt32 &&& (1431655765 : Int32)))).toUInt32 >>> (((2 : Int32)).toUInt32 &&& Int32.toUInt32 31)).toInt32 &&& (858993459 : Int32)))).toUInt32 >>> (((4 : Int32)).toUInt32 &&& Int32.toUInt32 31)).toInt32) &&& (252645135 : Int32)) + (((((((a1 - (((a1).toUInt32 >>> (((1 : Int32)).toUInt32 &&& Int32.toUInt32 31)).toInt32 &&& (1431655765 : Int32))) &&& (858993459 : Int32)) + ((((a1 - (((a1).toUInt32 >>> (((1 : Int32)).toUInt32 &&& Int32.toUInt32 31)).toInt32 &&& (1431655765 : Int32)))).toUInt32 >>> (((2 : Int32)).toUInt32 &&& Int32.toUInt32 31)).toInt32 &&& (858993459 : Int32))) + (((((a1 - (((a1).toUInt32 >>> (((1 : Int32)).toUInt32 &&& Int32.toUInt32 31)).toInt32 &&& (1431655765 : Int32))) &&& (858993459 : Int32)) + ((((a1 - (((a1).toUInt32 >>> (((1 : Int32)).toUInt32 &&& Int32.toUInt32 31)).toInt32 &&& (1431655765 : Int32)))).toUInt32 >>> (((2 : Int32)).toUInt32 &&& Int32.toUInt32 31)).toInt32 &&& (858993459 : Int32)))).toUInt32 >>> (((4 : Int32)).toUInt32 &&& Int32.toUInt32 31)).toInt32) &&& (252645135 : Int32))).toUInt32 >>> (((8 : Int32)).toUInt32 &&& Int32.toUInt32 31)).toInt32)).toUInt32 >>> (((16 : Int32)).toUInt32 &&& Int32.toUInt32 31)).toInt32) &&& (63 : Int32))
set_option maxHeartbeats 4000000 in
theorem kC_J3_bitCount {l : Launch} {D : va_G} {A : Nat → Prop} {K : Nat → Nat} {δ : Nat → ClassId} {sr ρ : Rf} {dy : va_W} {g : St} (a1 : Int32) : Ct l yJ3_bitCount cJ3_bitCount 1 (some .int) 0 0 D vwCl (kT δ) A (kW K δ sr ρ dy) [.int a1] g (QI D vwCl A (kW K δ sr ρ dy) (kF_J3_bitCount a1) g) := by
  generalize hf : kF_J3_bitCount a1 = z
  unfold kF_J3_bitCount at hf
  refine ct_intro (own := RJ3) (lv0 := [(0, .int a1)]) (by decide) rfl (Nat.le_of_ble_eq_true rfl) rfl ?_
  intro p e s m args below meth c X hr
  refine tw_iload_n X dJ3_bitCount_0 rfl 0 rfl ?_
  refine tw_iload_n X dJ3_bitCount_1 rfl 0 rfl ?_
  refine tw_iconst (v := 1) X dJ3_bitCount_2 rfl ?_
  refine tw_iushr X dJ3_bitCount_3 ?_
  refine tw_ldcw (v := 1431655765) X q594 dJ3_bitCount_4 ?_
  refine tw_iand X dJ3_bitCount_7 ?_
  refine tw_isub X dJ3_bitCount_8 ?_
  refine tw_istore_n (lv' := [(0, .int (a1 - (((a1).toUInt32 >>> (((1 : Int32)).toUInt32 &&& Int32.toUInt32 31)).toInt32 &&& (1431655765 : Int32))))]) X dJ3_bitCount_9 rfl (by decide) rfl ?_
  refine tw_iload_n X dJ3_bitCount_10 rfl 0 rfl ?_
  refine tw_ldcw (v := 858993459) X q595 dJ3_bitCount_11 ?_
  refine tw_iand X dJ3_bitCount_14 ?_
  refine tw_iload_n X dJ3_bitCount_15 rfl 0 rfl ?_
  refine tw_iconst (v := 2) X dJ3_bitCount_16 rfl ?_
  refine tw_iushr X dJ3_bitCount_17 ?_
  refine tw_ldcw (v := 858993459) X q595 dJ3_bitCount_18 ?_
  refine tw_iand X dJ3_bitCount_21 ?_
  refine tw_iadd X dJ3_bitCount_22 ?_
  refine tw_istore_n (lv' := [(0, .int (((a1 - (((a1).toUInt32 >>> (((1 : Int32)).toUInt32 &&& Int32.toUInt32 31)).toInt32 &&& (1431655765 : Int32))) &&& (858993459 : Int32)) + ((((a1 - (((a1).toUInt32 >>> (((1 : Int32)).toUInt32 &&& Int32.toUInt32 31)).toInt32 &&& (1431655765 : Int32)))).toUInt32 >>> (((2 : Int32)).toUInt32 &&& Int32.toUInt32 31)).toInt32 &&& (858993459 : Int32))))]) X dJ3_bitCount_23 rfl (by decide) rfl ?_
  refine tw_iload_n X dJ3_bitCount_24 rfl 0 rfl ?_
  refine tw_iload_n X dJ3_bitCount_25 rfl 0 rfl ?_
  refine tw_iconst (v := 4) X dJ3_bitCount_26 rfl ?_
  refine tw_iushr X dJ3_bitCount_27 ?_
  refine tw_iadd X dJ3_bitCount_28 ?_
  refine tw_ldcw (v := 252645135) X q596 dJ3_bitCount_29 ?_
  refine tw_iand X dJ3_bitCount_32 ?_
  refine tw_istore_n (lv' := [(0, .int (((((a1 - (((a1).toUInt32 >>> (((1 : Int32)).toUInt32 &&& Int32.toUInt32 31)).toInt32 &&& (1431655765 : Int32))) &&& (858993459 : Int32)) + ((((a1 - (((a1).toUInt32 >>> (((1 : Int32)).toUInt32 &&& Int32.toUInt32 31)).toInt32 &&& (1431655765 : Int32)))).toUInt32 >>> (((2 : Int32)).toUInt32 &&& Int32.toUInt32 31)).toInt32 &&& (858993459 : Int32))) + (((((a1 - (((a1).toUInt32 >>> (((1 : Int32)).toUInt32 &&& Int32.toUInt32 31)).toInt32 &&& (1431655765 : Int32))) &&& (858993459 : Int32)) + ((((a1 - (((a1).toUInt32 >>> (((1 : Int32)).toUInt32 &&& Int32.toUInt32 31)).toInt32 &&& (1431655765 : Int32)))).toUInt32 >>> (((2 : Int32)).toUInt32 &&& Int32.toUInt32 31)).toInt32 &&& (858993459 : Int32)))).toUInt32 >>> (((4 : Int32)).toUInt32 &&& Int32.toUInt32 31)).toInt32) &&& (252645135 : Int32)))]) X dJ3_bitCount_33 rfl (by decide) rfl ?_
  refine tw_iload_n X dJ3_bitCount_34 rfl 0 rfl ?_
  refine tw_iload_n X dJ3_bitCount_35 rfl 0 rfl ?_
  refine tw_bipush (v := 8) X dJ3_bitCount_36 rfl ?_
  refine tw_iushr X dJ3_bitCount_38 ?_
  refine tw_iadd X dJ3_bitCount_39 ?_
  refine tw_istore_n (lv' := [(0, .int ((((((a1 - (((a1).toUInt32 >>> (((1 : Int32)).toUInt32 &&& Int32.toUInt32 31)).toInt32 &&& (1431655765 : Int32))) &&& (858993459 : Int32)) + ((((a1 - (((a1).toUInt32 >>> (((1 : Int32)).toUInt32 &&& Int32.toUInt32 31)).toInt32 &&& (1431655765 : Int32)))).toUInt32 >>> (((2 : Int32)).toUInt32 &&& Int32.toUInt32 31)).toInt32 &&& (858993459 : Int32))) + (((((a1 - (((a1).toUInt32 >>> (((1 : Int32)).toUInt32 &&& Int32.toUInt32 31)).toInt32 &&& (1431655765 : Int32))) &&& (858993459 : Int32)) + ((((a1 - (((a1).toUInt32 >>> (((1 : Int32)).toUInt32 &&& Int32.toUInt32 31)).toInt32 &&& (1431655765 : Int32)))).toUInt32 >>> (((2 : Int32)).toUInt32 &&& Int32.toUInt32 31)).toInt32 &&& (858993459 : Int32)))).toUInt32 >>> (((4 : Int32)).toUInt32 &&& Int32.toUInt32 31)).toInt32) &&& (252645135 : Int32)) + (((((((a1 - (((a1).toUInt32 >>> (((1 : Int32)).toUInt32 &&& Int32.toUInt32 31)).toInt32 &&& (1431655765 : Int32))) &&& (858993459 : Int32)) + ((((a1 - (((a1).toUInt32 >>> (((1 : Int32)).toUInt32 &&& Int32.toUInt32 31)).toInt32 &&& (1431655765 : Int32)))).toUInt32 >>> (((2 : Int32)).toUInt32 &&& Int32.toUInt32 31)).toInt32 &&& (858993459 : Int32))) + (((((a1 - (((a1).toUInt32 >>> (((1 : Int32)).toUInt32 &&& Int32.toUInt32 31)).toInt32 &&& (1431655765 : Int32))) &&& (858993459 : Int32)) + ((((a1 - (((a1).toUInt32 >>> (((1 : Int32)).toUInt32 &&& Int32.toUInt32 31)).toInt32 &&& (1431655765 : Int32)))).toUInt32 >>> (((2 : Int32)).toUInt32 &&& Int32.toUInt32 31)).toInt32 &&& (858993459 : Int32)))).toUInt32 >>> (((4 : Int32)).toUInt32 &&& Int32.toUInt32 31)).toInt32) &&& (252645135 : Int32))).toUInt32 >>> (((8 : Int32)).toUInt32 &&& Int32.toUInt32 31)).toInt32))]) X dJ3_bitCount_40 rfl (by decide) rfl ?_
  refine tw_iload_n X dJ3_bitCount_41 rfl 0 rfl ?_
  refine tw_iload_n X dJ3_bitCount_42 rfl 0 rfl ?_
  refine tw_bipush (v := 16) X dJ3_bitCount_43 rfl ?_
  refine tw_iushr X dJ3_bitCount_45 ?_
  refine tw_iadd X dJ3_bitCount_46 ?_
  refine tw_istore_n (lv' := [(0, .int (((((((a1 - (((a1).toUInt32 >>> (((1 : Int32)).toUInt32 &&& Int32.toUInt32 31)).toInt32 &&& (1431655765 : Int32))) &&& (858993459 : Int32)) + ((((a1 - (((a1).toUInt32 >>> (((1 : Int32)).toUInt32 &&& Int32.toUInt32 31)).toInt32 &&& (1431655765 : Int32)))).toUInt32 >>> (((2 : Int32)).toUInt32 &&& Int32.toUInt32 31)).toInt32 &&& (858993459 : Int32))) + (((((a1 - (((a1).toUInt32 >>> (((1 : Int32)).toUInt32 &&& Int32.toUInt32 31)).toInt32 &&& (1431655765 : Int32))) &&& (858993459 : Int32)) + ((((a1 - (((a1).toUInt32 >>> (((1 : Int32)).toUInt32 &&& Int32.toUInt32 31)).toInt32 &&& (1431655765 : Int32)))).toUInt32 >>> (((2 : Int32)).toUInt32 &&& Int32.toUInt32 31)).toInt32 &&& (858993459 : Int32)))).toUInt32 >>> (((4 : Int32)).toUInt32 &&& Int32.toUInt32 31)).toInt32) &&& (252645135 : Int32)) + (((((((a1 - (((a1).toUInt32 >>> (((1 : Int32)).toUInt32 &&& Int32.toUInt32 31)).toInt32 &&& (1431655765 : Int32))) &&& (858993459 : Int32)) + ((((a1 - (((a1).toUInt32 >>> (((1 : Int32)).toUInt32 &&& Int32.toUInt32 31)).toInt32 &&& (1431655765 : Int32)))).toUInt32 >>> (((2 : Int32)).toUInt32 &&& Int32.toUInt32 31)).toInt32 &&& (858993459 : Int32))) + (((((a1 - (((a1).toUInt32 >>> (((1 : Int32)).toUInt32 &&& Int32.toUInt32 31)).toInt32 &&& (1431655765 : Int32))) &&& (858993459 : Int32)) + ((((a1 - (((a1).toUInt32 >>> (((1 : Int32)).toUInt32 &&& Int32.toUInt32 31)).toInt32 &&& (1431655765 : Int32)))).toUInt32 >>> (((2 : Int32)).toUInt32 &&& Int32.toUInt32 31)).toInt32 &&& (858993459 : Int32)))).toUInt32 >>> (((4 : Int32)).toUInt32 &&& Int32.toUInt32 31)).toInt32) &&& (252645135 : Int32))).toUInt32 >>> (((8 : Int32)).toUInt32 &&& Int32.toUInt32 31)).toInt32) + ((((((((a1 - (((a1).toUInt32 >>> (((1 : Int32)).toUInt32 &&& Int32.toUInt32 31)).toInt32 &&& (1431655765 : Int32))) &&& (858993459 : Int32)) + ((((a1 - (((a1).toUInt32 >>> (((1 : Int32)).toUInt32 &&& Int32.toUInt32 31)).toInt32 &&& (1431655765 : Int32)))).toUInt32 >>> (((2 : Int32)).toUInt32 &&& Int32.toUInt32 31)).toInt32 &&& (858993459 : Int32))) + (((((a1 - (((a1).toUInt32 >>> (((1 : Int32)).toUInt32 &&& Int32.toUInt32 31)).toInt32 &&& (1431655765 : Int32))) &&& (858993459 : Int32)) + ((((a1 - (((a1).toUInt32 >>> (((1 : Int32)).toUInt32 &&& Int32.toUInt32 31)).toInt32 &&& (1431655765 : Int32)))).toUInt32 >>> (((2 : Int32)).toUInt32 &&& Int32.toUInt32 31)).toInt32 &&& (858993459 : Int32)))).toUInt32 >>> (((4 : Int32)).toUInt32 &&& Int32.toUInt32 31)).toInt32) &&& (252645135 : Int32)) + (((((((a1 - (((a1).toUInt32 >>> (((1 : Int32)).toUInt32 &&& Int32.toUInt32 31)).toInt32 &&& (1431655765 : Int32))) &&& (858993459 : Int32)) + ((((a1 - (((a1).toUInt32 >>> (((1 : Int32)).toUInt32 &&& Int32.toUInt32 31)).toInt32 &&& (1431655765 : Int32)))).toUInt32 >>> (((2 : Int32)).toUInt32 &&& Int32.toUInt32 31)).toInt32 &&& (858993459 : Int32))) + (((((a1 - (((a1).toUInt32 >>> (((1 : Int32)).toUInt32 &&& Int32.toUInt32 31)).toInt32 &&& (1431655765 : Int32))) &&& (858993459 : Int32)) + ((((a1 - (((a1).toUInt32 >>> (((1 : Int32)).toUInt32 &&& Int32.toUInt32 31)).toInt32 &&& (1431655765 : Int32)))).toUInt32 >>> (((2 : Int32)).toUInt32 &&& Int32.toUInt32 31)).toInt32 &&& (858993459 : Int32)))).toUInt32 >>> (((4 : Int32)).toUInt32 &&& Int32.toUInt32 31)).toInt32) &&& (252645135 : Int32))).toUInt32 >>> (((8 : Int32)).toUInt32 &&& Int32.toUInt32 31)).toInt32)).toUInt32 >>> (((16 : Int32)).toUInt32 &&& Int32.toUInt32 31)).toInt32))]) X dJ3_bitCount_47 rfl (by decide) rfl ?_
  refine tw_iload_n X dJ3_bitCount_48 rfl 0 rfl ?_
  refine tw_bipush (v := 63) X dJ3_bitCount_49 rfl ?_
  refine tw_iand X dJ3_bitCount_51 ?_
  exact tw_iret X hr hf rfl dJ3_bitCount_52
noncomputable def kF_priceOf (E : EE) (g : St) (a1 : Int32) : Option (Int32 × St) :=
  (kF_X3_whole g).bind fun x1 =>
  (kF_absentBit g).bind fun x2 =>
  (rd (g 46) 6 a1).bind fun x3 =>
  (rd (g 50) 8 x3).bind fun x4 =>
  (wr g 15 5 (0 : Int32) x4).bind fun g5 =>
  (rd (g5 47) 6 a1).bind fun x6 =>
  (rd (g5 50) 8 x6).bind fun x7 =>
  (wr g5 15 5 (1 : Int32) x7).bind fun g8 =>
  (rd (g8 48) 6 a1).bind fun x9 =>
  (wr g8 15 5 (2 : Int32) x9).bind fun g10 =>
  (wr g10 15 5 (3 : Int32) (kF_J3_bitCount (x1 &&& (x2 ^^^ (-1 : Int32))))).bind fun g11 =>
  (wr g11 15 5 (4 : Int32) a1).bind fun g12 =>
  (rd (g12 15) 5 (1 : Int32)).bind fun x13 =>
  (rd (g12 15) 5 (0 : Int32)).bind fun x14 =>
  Option.bind (α := Int32) (β := Int32 × St)
    (jn (S := Int32) (T := Int32)
      (iter (L := Int32) (T := ((Int32) ⊕ (Int32))) (fun s22 => 
        if (Int32.ofNat (rn E)) ≤ s22 then
          some (.inr (.inr ((if (0 : Int32) < (x13 - x14) then (x13 - x14) else (0 : Int32)) + (g12 40 1))))
        else
          (ixo (rn E) s22).bind fun k26 =>
          (rd (g12 45) 6 a1).bind fun x27 =>
          if (fIsFor E k26 x27 (g12 15)) = 0 then
            some (.inl (s22 + (1 : Int32)))
          else
            some (.inr (.inl s22))) (0 : Int32))
      (fun j19 => (ixo (rn E) j19).bind fun k21 =>
      some (fChanges E k21 ((if (0 : Int32) < (x13 - x14) then (x13 - x14) else (0 : Int32)) + (g12 40 1)))))
    (fun j15 => (ppo E a1).bind fun k17 =>
    (rd (g12 48) 6 a1).bind fun x18 =>
    some ((fAsks (pk E k17) j15 x18 (kF_J3_bitCount (x1 &&& (x2 ^^^ (-1 : Int32))))), g12))
set_option maxHeartbeats 4000000 in
theorem kC_priceOf {l : Launch} {D : va_G} {A : Nat → Prop} {K : Nat → Nat} {δ : Nat → ClassId} {sr ρ : Rf} {dy : va_W} {E : EE} (hE : EOK δ ρ dy E) {g : St} {a1 : Int32} {z : Int32 × St} (hf : kF_priceOf E g a1 = some z) : Ct l yX0_priceOf cX0_priceOf 5 (some .int) 223 5142 D vwCl (kT δ) A (kW K δ sr ρ dy) [.ref (K 0), .int a1] g (QI D vwCl A (kW K δ sr ρ dy) z.1 z.2) := by
  unfold kF_priceOf at hf
  refine ct_intro (own := RX0) (lv0 := [(0, .ref (K 0)), (1, .int a1)]) (by decide) rfl (Nat.le_of_ble_eq_true rfl) rfl ?_
  intro p e s m args below meth c X hr
  refine tw_aload_n X dX0_priceOf_0 rfl 0 rfl ?_
  refine kgX0_47_0 X  dX0_priceOf_1 ?_
  obtain ⟨x1, hx1, hf⟩ := bnd hf
  refine tw_callVi (As := []) (st := []) X (kC_X3_whole hx1) kGX0_211 kI_X3_whole ⟨Nat.le_of_ble_eq_true rfl, Nat.le_of_ble_eq_true rfl⟩ ⟨Nat.zero_le _, Nat.zero_le _⟩ 3 rfl rfl rfl rfl (Nat.le_of_ble_eq_true rfl) dX0_priceOf_4 ?_
  refine tw_aload_n X dX0_priceOf_7 rfl 0 rfl ?_
  obtain ⟨x2, hx2, hf⟩ := bnd hf
  refine tw_callVi (As := []) (st := [.int x1]) X (kC_absentBit hx2) kGX0_345 kI_X0_absentBit ⟨Nat.le_of_ble_eq_true rfl, Nat.le_of_ble_eq_true rfl⟩ ⟨Nat.zero_le _, Nat.zero_le _⟩ 0 rfl rfl rfl rfl (Nat.le_of_ble_eq_true rfl) dX0_priceOf_8 ?_
  refine tw_iconst (v := -1) X dX0_priceOf_11 rfl ?_
  refine tw_ixor X dX0_priceOf_12 ?_
  refine tw_iand X dX0_priceOf_13 ?_
  refine tw_callSi (As := [.int (x1 &&& (x2 ^^^ (-1 : Int32)))]) (st := []) X (kC_J3_bitCount (g := g) (x1 &&& (x2 ^^^ (-1 : Int32)))) kGX0_348 kI_J3_bitCount ⟨Nat.le_of_ble_eq_true rfl, Nat.le_of_ble_eq_true rfl⟩ ⟨Nat.zero_le _, Nat.zero_le _⟩ rfl rfl (Nat.le_of_ble_eq_true rfl) dX0_priceOf_14 ?_
  refine tw_istore_n (lv' := [(2, .int (kF_J3_bitCount (x1 &&& (x2 ^^^ (-1 : Int32))))), (0, .ref (K 0)), (1, .int a1)]) X dX0_priceOf_17 rfl (by decide) rfl ?_
  refine tw_aload_n X dX0_priceOf_18 rfl 1 rfl ?_
  refine kgX0_107_0 X  dX0_priceOf_19 ?_
  refine tw_iconst (v := 0) X dX0_priceOf_22 rfl ?_
  refine tw_aload_n X dX0_priceOf_23 rfl 1 rfl ?_
  refine kgX0_47_0 X  dX0_priceOf_24 ?_
  refine kgX0_198_3 X  dX0_priceOf_27 ?_
  refine tw_aload_n X dX0_priceOf_30 rfl 1 rfl ?_
  refine kgX0_47_0 X  dX0_priceOf_31 ?_
  refine kgX0_174_3 X  dX0_priceOf_34 ?_
  refine tw_iload_n X dX0_priceOf_37 rfl 2 rfl ?_
  obtain ⟨x3, hx3, hf⟩ := bnd hf
  refine klX0_46 X hx3 dX0_priceOf_38 ?_
  obtain ⟨x4, hx4, hf⟩ := bnd hf
  refine klX0_50 X hx4 dX0_priceOf_39 ?_
  obtain ⟨g5, hg5, hf⟩ := bnd hf
  refine ksX0_15 X hg5 dX0_priceOf_40 ?_
  refine tw_aload_n X dX0_priceOf_41 rfl 1 rfl ?_
  refine kgX0_107_0 X  dX0_priceOf_42 ?_
  refine tw_iconst (v := 1) X dX0_priceOf_45 rfl ?_
  refine tw_aload_n X dX0_priceOf_46 rfl 1 rfl ?_
  refine kgX0_47_0 X  dX0_priceOf_47 ?_
  refine kgX0_198_3 X  dX0_priceOf_50 ?_
  refine tw_aload_n X dX0_priceOf_53 rfl 1 rfl ?_
  refine kgX0_47_0 X  dX0_priceOf_54 ?_
  refine kgX0_160_3 X  dX0_priceOf_57 ?_
  refine tw_iload_n X dX0_priceOf_60 rfl 2 rfl ?_
  obtain ⟨x6, hx6, hf⟩ := bnd hf
  refine klX0_47 X hx6 dX0_priceOf_61 ?_
  obtain ⟨x7, hx7, hf⟩ := bnd hf
  refine klX0_50 X hx7 dX0_priceOf_62 ?_
  obtain ⟨g8, hg8, hf⟩ := bnd hf
  refine ksX0_15 X hg8 dX0_priceOf_63 ?_
  refine tw_aload_n X dX0_priceOf_64 rfl 1 rfl ?_
  refine kgX0_107_0 X  dX0_priceOf_65 ?_
  refine tw_iconst (v := 2) X dX0_priceOf_68 rfl ?_
  refine tw_aload_n X dX0_priceOf_69 rfl 1 rfl ?_
  refine kgX0_47_0 X  dX0_priceOf_70 ?_
  refine kgX0_176_3 X  dX0_priceOf_73 ?_
  refine tw_iload_n X dX0_priceOf_76 rfl 2 rfl ?_
  obtain ⟨x9, hx9, hf⟩ := bnd hf
  refine klX0_48 X hx9 dX0_priceOf_77 ?_
  obtain ⟨g10, hg10, hf⟩ := bnd hf
  refine ksX0_15 X hg10 dX0_priceOf_78 ?_
  refine tw_aload_n X dX0_priceOf_79 rfl 1 rfl ?_
  refine kgX0_107_0 X  dX0_priceOf_80 ?_
  refine tw_iconst (v := 3) X dX0_priceOf_83 rfl ?_
  refine tw_iload_n X dX0_priceOf_84 rfl 0 rfl ?_
  obtain ⟨g11, hg11, hf⟩ := bnd hf
  refine ksX0_15 X hg11 dX0_priceOf_85 ?_
  refine tw_aload_n X dX0_priceOf_86 rfl 1 rfl ?_
  refine kgX0_107_0 X  dX0_priceOf_87 ?_
  refine tw_iconst (v := 4) X dX0_priceOf_90 rfl ?_
  refine tw_iload_n X dX0_priceOf_91 rfl 2 rfl ?_
  obtain ⟨g12, hg12, hf⟩ := bnd hf
  refine ksX0_15 X hg12 dX0_priceOf_92 ?_
  refine tw_iconst (v := 0) X dX0_priceOf_93 rfl ?_
  refine tw_aload_n X dX0_priceOf_94 rfl 1 rfl ?_
  refine kgX0_107_0 X  dX0_priceOf_95 ?_
  refine tw_iconst (v := 1) X dX0_priceOf_98 rfl ?_
  obtain ⟨x13, hx13, hf⟩ := bnd hf
  refine klX0_15 X hx13 dX0_priceOf_99 ?_
  refine tw_aload_n X dX0_priceOf_100 rfl 1 rfl ?_
  refine kgX0_107_0 X  dX0_priceOf_101 ?_
  refine tw_iconst (v := 0) X dX0_priceOf_104 rfl ?_
  obtain ⟨x14, hx14, hf⟩ := bnd hf
  refine klX0_15 X hx14 dX0_priceOf_105 ?_
  refine tw_isub X dX0_priceOf_106 ?_
  refine tw_mmax X q597 ⟨Nat.le_of_ble_eq_true rfl, Nat.le_of_ble_eq_true rfl⟩ ⟨Nat.zero_le _, Nat.zero_le _⟩ (Nat.le_of_ble_eq_true rfl) dX0_priceOf_107 ?_
  refine tw_aload_n X dX0_priceOf_110 rfl 1 rfl ?_
  refine kgX0_47_0 X  dX0_priceOf_111 ?_
  refine kgX0_204_3 X  dX0_priceOf_114 ?_
  refine tw_iadd X dX0_priceOf_117 ?_
  refine tw_istore_n (lv' := [(3, .int ((if (0 : Int32) < (x13 - x14) then (x13 - x14) else (0 : Int32)) + (g12 40 1))), (2, .int (kF_J3_bitCount (x1 &&& (x2 ^^^ (-1 : Int32))))), (0, .ref (K 0)), (1, .int a1)]) X dX0_priceOf_118 rfl (by decide) rfl ?_
  refine tw_iconst (v := 0) X dX0_priceOf_119 rfl ?_
  refine tw_istore (lv' := [(4, .int (0 : Int32)), (3, .int ((if (0 : Int32) < (x13 - x14) then (x13 - x14) else (0 : Int32)) + (g12 40 1))), (2, .int (kF_J3_bitCount (x1 &&& (x2 ^^^ (-1 : Int32))))), (0, .ref (K 0)), (1, .int a1)]) X dX0_priceOf_120 (by decide) rfl ?_
  refine bj_walk (P := fun j15 : Int32 => TW p l e (rom 223 5142) s m args below meth c (MQ below (QI D vwCl A (kW K δ sr ρ dy) z.1 z.2) args s 0 0 A) D vwCl A (kW K δ sr ρ dy) 5 0 0 g12 191 [(0, .ref (K 0)), (1, .int a1), (2, .int (kF_J3_bitCount (x1 &&& (x2 ^^^ (-1 : Int32))))), (3, .int j15)] []) hf ?_ ?_
  · intro j15 hf
    refine tw_aload_n X dX0_priceOf_191 rfl 0 rfl ?_
    refine kgX0_59_0 X  dX0_priceOf_192 ?_
    refine tw_iload_n X dX0_priceOf_195 rfl 1 rfl ?_
    obtain ⟨k17, hk17, hf⟩ := bnd hf
    refine kd_pald X hE hk17 dX0_priceOf_196 ?_
    refine tw_iload_n X dX0_priceOf_197 rfl 3 rfl ?_
    refine tw_aload_n X dX0_priceOf_198 rfl 0 rfl ?_
    refine kgX0_47_0 X  dX0_priceOf_199 ?_
    refine kgX0_176_3 X  dX0_priceOf_202 ?_
    refine tw_iload_n X dX0_priceOf_205 rfl 1 rfl ?_
    obtain ⟨x18, hx18, hf⟩ := bnd hf
    refine klX0_48 X hx18 dX0_priceOf_206 ?_
    refine tw_iload_n X dX0_priceOf_207 rfl 2 rfl ?_
    refine kd_asks X hE hk17 (k := k17) ⟨Nat.le_of_ble_eq_true rfl, Nat.le_of_ble_eq_true rfl⟩ ⟨Nat.zero_le _, Nat.zero_le _⟩ (Nat.le_of_ble_eq_true rfl) dX0_priceOf_208 ?_
    exact tw_iret X hr (prj1 hf) (prj2 hf) dX0_priceOf_211
  · intro zz34 hf hk16
    refine jn_walk (P := fun j19 : Int32 => TW p l e (rom 223 5142) s m args below meth c (MQ below (QI D vwCl A (kW K δ sr ρ dy) z.1 z.2) args s 0 0 A) D vwCl A (kW K δ sr ρ dy) 5 0 0 g12 167 [(0, .ref (K 0)), (1, .int a1), (2, .int (kF_J3_bitCount (x1 &&& (x2 ^^^ (-1 : Int32))))), (3, .int ((if (0 : Int32) < (x13 - x14) then (x13 - x14) else (0 : Int32)) + (g12 40 1))), (4, .int j19)] []) hf ?_ ?_
    · intro j19 hf
      refine tw_aload_n X dX0_priceOf_167 rfl 0 rfl ?_
      refine kgX0_47_0 X  dX0_priceOf_168 ?_
      refine kg_rulesX0 X hE dX0_priceOf_171 ?_
      refine tw_iload X dX0_priceOf_174 4 rfl ?_
      obtain ⟨k21, hk21, hf⟩ := bnd hf
      refine kd_rald X hE hk21 dX0_priceOf_176 ?_
      refine tw_iload_n X dX0_priceOf_177 rfl 3 rfl ?_
      refine kd_changes X hE hk21 (k := k21) ⟨Nat.le_of_ble_eq_true rfl, Nat.le_of_ble_eq_true rfl⟩ ⟨Nat.zero_le _, Nat.zero_le _⟩ (Nat.le_of_ble_eq_true rfl) dX0_priceOf_178 ?_
      refine tw_istore_n (lv' := [(3, .int (fChanges E k21 ((if (0 : Int32) < (x13 - x14) then (x13 - x14) else (0 : Int32)) + (g12 40 1)))), (0, .ref (K 0)), (1, .int a1), (2, .int (kF_J3_bitCount (x1 &&& (x2 ^^^ (-1 : Int32))))), (4, .int j19)]) X dX0_priceOf_181 rfl (by decide) rfl ?_
      refine tw_goto (tgt := 191) X dX0_priceOf_182 rfl ?_
      refine tw_sub [1, 2, 3, 0] (lv' := [(0, .ref (K 0)), (1, .int a1), (2, .int (kF_J3_bitCount (x1 &&& (x2 ^^^ (-1 : Int32))))), (3, .int (fChanges E k21 ((if (0 : Int32) < (x13 - x14) then (x13 - x14) else (0 : Int32)) + (g12 40 1))))]) rfl ?_
      have hL := hk16 _ hf
      exact hL
    · intro zz33 hf hk20
      refine tw_sub [3, 4, 2, 1, 0] (lv' := [(0, .ref (K 0)), (1, .int a1), (2, .int (kF_J3_bitCount (x1 &&& (x2 ^^^ (-1 : Int32))))), (3, .int ((if (0 : Int32) < (x13 - x14) then (x13 - x14) else (0 : Int32)) + (g12 40 1))), (4, .int (0 : Int32))]) rfl ?_
      refine it_walk (P := fun s22 : Int32 => TW p l e (rom 223 5142) s m args below meth c (MQ below (QI D vwCl A (kW K δ sr ρ dy) z.1 z.2) args s 0 0 A) D vwCl A (kW K δ sr ρ dy) 5 0 0 g12 122 [(0, .ref (K 0)), (1, .int a1), (2, .int (kF_J3_bitCount (x1 &&& (x2 ^^^ (-1 : Int32))))), (3, .int ((if (0 : Int32) < (x13 - x14) then (x13 - x14) else (0 : Int32)) + (g12 40 1))), (4, .int s22)] []) hf ?_
      intro s22 zz32 hf hl23
      refine tw_iload X dX0_priceOf_122 4 rfl ?_
      refine tw_aload_n X dX0_priceOf_124 rfl 0 rfl ?_
      refine kgX0_47_0 X  dX0_priceOf_125 ?_
      refine kg_rulesX0 X hE dX0_priceOf_128 ?_
      refine kd_rlen X hE dX0_priceOf_131 ?_
      refine tw_icmp_ge (tgt := 191) X dX0_priceOf_132 rfl hf (fun q31 hf => ?_) (fun q31 hf => ?_)
      · clear q31
        have hf24 := leafR hf hl23
        have hf25 := leafR hf24 hk20
        refine tw_sub [0, 1, 2, 3] (lv' := [(0, .ref (K 0)), (1, .int a1), (2, .int (kF_J3_bitCount (x1 &&& (x2 ^^^ (-1 : Int32))))), (3, .int ((if (0 : Int32) < (x13 - x14) then (x13 - x14) else (0 : Int32)) + (g12 40 1)))]) rfl ?_
        have hL := hk16 _ hf25
        exact hL
      · clear q31
        refine tw_aload_n X dX0_priceOf_135 rfl 0 rfl ?_
        refine kgX0_47_0 X  dX0_priceOf_136 ?_
        refine kg_rulesX0 X hE dX0_priceOf_139 ?_
        refine tw_iload X dX0_priceOf_142 4 rfl ?_
        obtain ⟨k26, hk26, hf⟩ := bnd hf
        refine kd_rald X hE hk26 dX0_priceOf_144 ?_
        refine tw_aload_n X dX0_priceOf_145 rfl 0 rfl ?_
        refine kgX0_47_0 X  dX0_priceOf_146 ?_
        refine kgX0_157_3 X  dX0_priceOf_149 ?_
        refine tw_iload_n X dX0_priceOf_152 rfl 1 rfl ?_
        obtain ⟨x27, hx27, hf⟩ := bnd hf
        refine klX0_45 X hx27 dX0_priceOf_153 ?_
        refine tw_aload_n X dX0_priceOf_154 rfl 0 rfl ?_
        refine kgX0_107_0 X  dX0_priceOf_155 ?_
        refine kd_isFor X hE hk26 (k := k26) (of := x27) ⟨Nat.le_of_ble_eq_true rfl, Nat.le_of_ble_eq_true rfl⟩ ⟨Nat.zero_le _, Nat.zero_le _⟩ (Nat.le_of_ble_eq_true rfl) dX0_priceOf_158 ?_
        intro hb28
        refine tw_if_ne (tgt := 167) X dX0_priceOf_161 rfl hf (fun q30 hf => ?_) (fun q30 hf => ?_)
        · clear q30
          refine tw_goto (tgt := 185) X dX0_priceOf_164 rfl ?_
          refine tw_iinc (q := 4) (v := (s22 + (1 : Int32))) (lv' := [(4, .int (s22 + (1 : Int32))), (0, .ref (K 0)), (1, .int a1), (2, .int (kF_J3_bitCount (x1 &&& (x2 ^^^ (-1 : Int32))))), (3, .int ((if (0 : Int32) < (x13 - x14) then (x13 - x14) else (0 : Int32)) + (g12 40 1)))]) X dX0_priceOf_185 rfl rfl (by decide) rfl ?_
          refine tw_goto (tgt := 122) X dX0_priceOf_188 rfl ?_
          refine tw_sub [1, 2, 3, 4, 0] (lv' := [(0, .ref (K 0)), (1, .int a1), (2, .int (kF_J3_bitCount (x1 &&& (x2 ^^^ (-1 : Int32))))), (3, .int ((if (0 : Int32) < (x13 - x14) then (x13 - x14) else (0 : Int32)) + (g12 40 1))), (4, .int (s22 + (1 : Int32)))]) rfl ?_
          have hL := leafL hf hl23
          exact hL
        · clear q30
          have hf29 := leafR hf hl23
          have hL := leafL hf29 hk20
          exact hL
noncomputable def kF_personOf (E : EE) (g : St) (a1 : Int32) (a2 : Int32) : Option (Int32 × St) :=
  (kF_isPerson g a1).bind fun x1 =>
  if x1 = 0 then
    some ((-1 : Int32), g)
  else
    if a2 = (0 : Int32) then
      (rd (g 45) 6 a1).bind fun x3 =>
      some (x3, g)
    else if a2 = (1 : Int32) then
      (rd (g 46) 6 a1).bind fun x5 =>
      some (x5, g)
    else if a2 = (2 : Int32) then
      (rd (g 47) 6 a1).bind fun x7 =>
      some (x7, g)
    else if a2 = (3 : Int32) then
      (rd (g 48) 6 a1).bind fun x9 =>
      some (x9, g)
    else if a2 = (4 : Int32) then
      (kF_priceOf E g a1).bind (un2 fun y11a y11b =>
      some (y11a, y11b))
    else if a2 = (5 : Int32) then
      (kF_X3_isWhole g a1).bind fun x13 =>
      if x13 = 0 then
        some ((0 : Int32), g)
      else
        some ((1 : Int32), g)
    else if a2 = (6 : Int32) then
      (rd (g 49) 6 a1).bind fun x17 =>
      some (x17, g)
    else 
      some ((-1 : Int32), g)
set_option maxHeartbeats 4000000 in
theorem kC_personOf {l : Launch} {D : va_G} {A : Nat → Prop} {K : Nat → Nat} {δ : Nat → ClassId} {sr ρ : Rf} {dy : va_W} {E : EE} (hE : EOK δ ρ dy E) {g : St} {a1 : Int32} {a2 : Int32} {z : Int32 × St} (hf : kF_personOf E g a1 a2 = some z) : Ct l yX0_personOf cX0_personOf 3 (some .int) 224 5166 D vwCl (kT δ) A (kW K δ sr ρ dy) [.ref (K 0), .int a1, .int a2] g (QI D vwCl A (kW K δ sr ρ dy) z.1 z.2) := by
  unfold kF_personOf at hf
  refine ct_intro (own := RX0) (lv0 := [(0, .ref (K 0)), (1, .int a1), (2, .int a2)]) (by decide) rfl (Nat.le_of_ble_eq_true rfl) rfl ?_
  intro p e s m args below meth c X hr
  refine tw_aload_n X dX0_personOf_0 rfl 0 rfl ?_
  refine tw_iload_n X dX0_personOf_1 rfl 1 rfl ?_
  obtain ⟨x1, hx1, hf⟩ := bnd hf
  refine tw_callVz (As := [.int a1]) (st := []) X (kC_isPerson hx1) kGX0_185 kI_X0_isPerson ⟨Nat.le_of_ble_eq_true rfl, Nat.le_of_ble_eq_true rfl⟩ ⟨Nat.zero_le _, Nat.zero_le _⟩ 0 rfl rfl rfl rfl (Nat.le_of_ble_eq_true rfl) dX0_personOf_2 ?_
  intro hb2
  refine tw_if_ne (tgt := 10) X dX0_personOf_5 rfl hf (fun q19 hf => ?_) (fun q19 hf => ?_)
  · clear q19
    refine tw_iconst (v := -1) X dX0_personOf_8 rfl ?_
    exact tw_iret X hr (prj1 hf) (prj2 hf) dX0_personOf_9
  · clear q19
    refine tw_iload_n X dX0_personOf_10 rfl 2 rfl ?_
    by_cases w4 : a2 = (0 : Int32)
    · rw [if_pos w4] at hf
      refine tw_tableIn (off := 41) (tgt := 52) X dX0_personOf_11 w4 (by decide) (by decide) rfl rfl ?_
      refine tw_aload_n X dX0_personOf_52 rfl 0 rfl ?_
      refine kgX0_47_0 X  dX0_personOf_53 ?_
      refine kgX0_157_3 X  dX0_personOf_56 ?_
      refine tw_iload_n X dX0_personOf_59 rfl 1 rfl ?_
      obtain ⟨x3, hx3, hf⟩ := bnd hf
      refine klX0_45 X hx3 dX0_personOf_60 ?_
      exact tw_iret X hr (prj1 hf) (prj2 hf) dX0_personOf_61
    · rw [if_neg w4] at hf
      by_cases w6 : a2 = (1 : Int32)
      · rw [if_pos w6] at hf
        refine tw_tableIn (off := 51) (tgt := 62) X dX0_personOf_11 w6 (by decide) (by decide) rfl rfl ?_
        refine tw_aload_n X dX0_personOf_62 rfl 0 rfl ?_
        refine kgX0_47_0 X  dX0_personOf_63 ?_
        refine kgX0_174_3 X  dX0_personOf_66 ?_
        refine tw_iload_n X dX0_personOf_69 rfl 1 rfl ?_
        obtain ⟨x5, hx5, hf⟩ := bnd hf
        refine klX0_46 X hx5 dX0_personOf_70 ?_
        exact tw_iret X hr (prj1 hf) (prj2 hf) dX0_personOf_71
      · rw [if_neg w6] at hf
        by_cases w8 : a2 = (2 : Int32)
        · rw [if_pos w8] at hf
          refine tw_tableIn (off := 61) (tgt := 72) X dX0_personOf_11 w8 (by decide) (by decide) rfl rfl ?_
          refine tw_aload_n X dX0_personOf_72 rfl 0 rfl ?_
          refine kgX0_47_0 X  dX0_personOf_73 ?_
          refine kgX0_160_3 X  dX0_personOf_76 ?_
          refine tw_iload_n X dX0_personOf_79 rfl 1 rfl ?_
          obtain ⟨x7, hx7, hf⟩ := bnd hf
          refine klX0_47 X hx7 dX0_personOf_80 ?_
          exact tw_iret X hr (prj1 hf) (prj2 hf) dX0_personOf_81
        · rw [if_neg w8] at hf
          by_cases w10 : a2 = (3 : Int32)
          · rw [if_pos w10] at hf
            refine tw_tableIn (off := 71) (tgt := 82) X dX0_personOf_11 w10 (by decide) (by decide) rfl rfl ?_
            refine tw_aload_n X dX0_personOf_82 rfl 0 rfl ?_
            refine kgX0_47_0 X  dX0_personOf_83 ?_
            refine kgX0_176_3 X  dX0_personOf_86 ?_
            refine tw_iload_n X dX0_personOf_89 rfl 1 rfl ?_
            obtain ⟨x9, hx9, hf⟩ := bnd hf
            refine klX0_48 X hx9 dX0_personOf_90 ?_
            exact tw_iret X hr (prj1 hf) (prj2 hf) dX0_personOf_91
          · rw [if_neg w10] at hf
            by_cases w12 : a2 = (4 : Int32)
            · rw [if_pos w12] at hf
              refine tw_tableIn (off := 81) (tgt := 92) X dX0_personOf_11 w12 (by decide) (by decide) rfl rfl ?_
              refine tw_aload_n X dX0_personOf_92 rfl 0 rfl ?_
              refine tw_iload_n X dX0_personOf_93 rfl 1 rfl ?_
              obtain ⟨⟨y11a, y11b⟩, hy11, hf⟩ := bnd hf
              dsimp only [un2] at hf
              refine tw_callVi (As := [.int a1]) (st := []) X (kC_priceOf hE hy11) kGX0_188 kI_X0_priceOf ⟨Nat.le_of_ble_eq_true rfl, Nat.le_of_ble_eq_true rfl⟩ ⟨Nat.zero_le _, Nat.zero_le _⟩ 0 rfl rfl rfl rfl (Nat.le_of_ble_eq_true rfl) dX0_personOf_94 ?_
              exact tw_iret X hr (prj1 hf) (prj2 hf) dX0_personOf_97
            · rw [if_neg w12] at hf
              by_cases w16 : a2 = (5 : Int32)
              · rw [if_pos w16] at hf
                refine tw_tableIn (off := 87) (tgt := 98) X dX0_personOf_11 w16 (by decide) (by decide) rfl rfl ?_
                refine tw_aload_n X dX0_personOf_98 rfl 0 rfl ?_
                refine kgX0_47_0 X  dX0_personOf_99 ?_
                refine tw_iload_n X dX0_personOf_102 rfl 1 rfl ?_
                obtain ⟨x13, hx13, hf⟩ := bnd hf
                refine tw_callVz (As := [.int a1]) (st := []) X (kC_X3_isWhole hx13) kGX0_192 kI_X3_isWhole ⟨Nat.le_of_ble_eq_true rfl, Nat.le_of_ble_eq_true rfl⟩ ⟨Nat.zero_le _, Nat.zero_le _⟩ 3 rfl rfl rfl rfl (Nat.le_of_ble_eq_true rfl) dX0_personOf_103 ?_
                intro hb14
                refine tw_if_eq (tgt := 113) X dX0_personOf_106 rfl hf (fun q15 hf => ?_) (fun q15 hf => ?_)
                · clear q15
                  refine tw_iconst (v := 0) X dX0_personOf_113 rfl ?_
                  exact tw_iret X hr (prj1 hf) (prj2 hf) dX0_personOf_114
                · clear q15
                  refine tw_iconst (v := 1) X dX0_personOf_109 rfl ?_
                  refine tw_goto (tgt := 114) X dX0_personOf_110 rfl ?_
                  exact tw_iret X hr (prj1 hf) (prj2 hf) dX0_personOf_114
              · rw [if_neg w16] at hf
                by_cases w18 : a2 = (6 : Int32)
                · rw [if_pos w18] at hf
                  refine tw_tableIn (off := 104) (tgt := 115) X dX0_personOf_11 w18 (by decide) (by decide) rfl rfl ?_
                  refine tw_aload_n X dX0_personOf_115 rfl 0 rfl ?_
                  refine kgX0_47_0 X  dX0_personOf_116 ?_
                  refine kgX0_178_3 X  dX0_personOf_119 ?_
                  refine tw_iload_n X dX0_personOf_122 rfl 1 rfl ?_
                  obtain ⟨x17, hx17, hf⟩ := bnd hf
                  refine klX0_49 X hx17 dX0_personOf_123 ?_
                  exact tw_iret X hr (prj1 hf) (prj2 hf) dX0_personOf_124
                · rw [if_neg w18] at hf
                  refine tw_tableOut (tgt := 125) X dX0_personOf_11 (by have w4' : a2.toInt ≠ 0 := i32_ne w4; have w6' : a2.toInt ≠ 1 := i32_ne w6; have w8' : a2.toInt ≠ 2 := i32_ne w8; have w10' : a2.toInt ≠ 3 := i32_ne w10; have w12' : a2.toInt ≠ 4 := i32_ne w12; have w16' : a2.toInt ≠ 5 := i32_ne w16; have w18' : a2.toInt ≠ 6 := i32_ne w18; omega) rfl ?_
                  refine tw_iconst (v := -1) X dX0_personOf_125 rfl ?_
                  exact tw_iret X hr (prj1 hf) (prj2 hf) dX0_personOf_126
noncomputable def kF_meet (g : St) (a1 : Int32) (a2 : Int32) : Option (Int32) :=
  (rd (g 49) 6 a1).bind fun x1 =>
  if ((x1 >>> (a2 &&& 31)) &&& (1 : Int32)) = (1 : Int32) then
    some (1 : Int32)
  else
    some (0 : Int32)
set_option maxHeartbeats 4000000 in
theorem kC_meet {l : Launch} {D : va_G} {A : Nat → Prop} {K : Nat → Nat} {δ : Nat → ClassId} {sr ρ : Rf} {dy : va_W} {g : St} {a1 : Int32} {a2 : Int32} {z : Int32} (hf : kF_meet g a1 a2 = some z) : Ct l yX0_meet cX0_meet 3 (some .boolean) 0 0 D vwCl (kT δ) A (kW K δ sr ρ dy) [.ref (K 0), .int a1, .int a2] g (QZ D vwCl A (kW K δ sr ρ dy) z g) := by
  unfold kF_meet at hf
  refine ct_intro (own := RX0) (lv0 := [(0, .ref (K 0)), (1, .int a1), (2, .int a2)]) (by decide) rfl (Nat.le_of_ble_eq_true rfl) rfl ?_
  intro p e s m args below meth c X hr
  refine tw_aload_n X dX0_meet_0 rfl 0 rfl ?_
  refine kgX0_47_0 X  dX0_meet_1 ?_
  refine kgX0_178_3 X  dX0_meet_4 ?_
  refine tw_iload_n X dX0_meet_7 rfl 1 rfl ?_
  obtain ⟨x1, hx1, hf⟩ := bnd hf
  refine klX0_49 X hx1 dX0_meet_8 ?_
  refine tw_iload_n X dX0_meet_9 rfl 2 rfl ?_
  refine tw_ishr X dX0_meet_10 ?_
  refine tw_iconst (v := 1) X dX0_meet_11 rfl ?_
  refine tw_iand X dX0_meet_12 ?_
  refine tw_iconst (v := 1) X dX0_meet_13 rfl ?_
  refine tw_icmp_ne (tgt := 21) X dX0_meet_14 rfl hf (fun q2 hf => ?_) (fun q2 hf => ?_)
  · clear q2
    refine tw_iconst (v := 1) X dX0_meet_17 rfl ?_
    refine tw_goto (tgt := 22) X dX0_meet_18 rfl ?_
    exact tw_zret X hr (Or.inr rfl) (Option.some.inj hf) rfl dX0_meet_22
  · clear q2
    refine tw_iconst (v := 0) X dX0_meet_21 rfl ?_
    exact tw_zret X hr (Or.inl rfl) (Option.some.inj hf) rfl dX0_meet_22
noncomputable def kF_meets (g : St) (a1 : Int32) (a2 : Int32) (a3 : Int32) : Option (Int32 × St) :=
  (kF_isPerson g a1).bind fun x1 =>
  if x1 = 0 then
    some ((-1 : Int32), g)
  else
    (kF_isPerson g a2).bind fun x3 =>
    if x3 = 0 then
      some ((-1 : Int32), g)
    else
      if a1 = a2 then
        some ((-1 : Int32), g)
      else
        (kF_meet g a1 a2).bind fun x5 =>
        Option.bind (α := Int32) (β := Int32 × St)
          (if x5 = 0 then
            some (0 : Int32)
          else
            some (1 : Int32))
          (fun j7 => Option.bind (α := Int32) (β := Int32 × St)
            (if a3 = 0 then
              (rd (g 49) 6 a1).bind fun x17 =>
              some (x17 &&& (((1 : Int32) <<< (a2 &&& 31)) ^^^ (-1 : Int32)))
            else
              (rd (g 49) 6 a1).bind fun x18 =>
              some (x18 ||| ((1 : Int32) <<< (a2 &&& 31))))
            (fun j9 => (wr g 49 6 a1 j9).bind fun g11 =>
            if a3 = 0 then
              (rd (g11 49) 6 a2).bind fun x12 =>
              (wr g11 49 6 a2 (x12 &&& (((1 : Int32) <<< (a1 &&& 31)) ^^^ (-1 : Int32)))).bind fun g13 =>
              some (j7, g13)
            else
              (rd (g11 49) 6 a2).bind fun x14 =>
              (wr g11 49 6 a2 (x14 ||| ((1 : Int32) <<< (a1 &&& 31)))).bind fun g15 =>
              some (j7, g15)))
set_option maxHeartbeats 4000000 in
theorem kC_meets {l : Launch} {D : va_G} {A : Nat → Prop} {K : Nat → Nat} {δ : Nat → ClassId} {sr ρ : Rf} {dy : va_W} {g : St} {a1 : Int32} {a2 : Int32} {a3 : Int32} {z : Int32 × St} (hf : kF_meets g a1 a2 a3 = some z) : Ct l yX0_meets cX0_meets 5 (some .int) 2 43 D vwCl (kT δ) A (kW K δ sr ρ dy) [.ref (K 0), .int a1, .int a2, .int a3] g (QI D vwCl A (kW K δ sr ρ dy) z.1 z.2) := by
  unfold kF_meets at hf
  refine ct_intro (own := RX0) (lv0 := [(0, .ref (K 0)), (1, .int a1), (2, .int a2), (3, .int a3)]) (by decide) rfl (Nat.le_of_ble_eq_true rfl) rfl ?_
  intro p e s m args below meth c X hr
  refine tw_aload_n X dX0_meets_0 rfl 0 rfl ?_
  refine tw_iload_n X dX0_meets_1 rfl 1 rfl ?_
  obtain ⟨x1, hx1, hf⟩ := bnd hf
  refine tw_callVz (As := [.int a1]) (st := []) X (kC_isPerson hx1) kGX0_185 kI_X0_isPerson ⟨Nat.le_of_ble_eq_true rfl, Nat.le_of_ble_eq_true rfl⟩ ⟨Nat.zero_le _, Nat.zero_le _⟩ 0 rfl rfl rfl rfl (Nat.le_of_ble_eq_true rfl) dX0_meets_2 ?_
  intro hb2
  refine tw_if_eq (tgt := 21) X dX0_meets_5 rfl hf (fun q25 hf => ?_) (fun q25 hf => ?_)
  · clear q25
    refine tw_iconst (v := -1) X dX0_meets_21 rfl ?_
    exact tw_iret X hr (prj1 hf) (prj2 hf) dX0_meets_22
  · clear q25
    refine tw_aload_n X dX0_meets_8 rfl 0 rfl ?_
    refine tw_iload_n X dX0_meets_9 rfl 2 rfl ?_
    obtain ⟨x3, hx3, hf⟩ := bnd hf
    refine tw_callVz (As := [.int a2]) (st := []) X (kC_isPerson hx3) kGX0_185 kI_X0_isPerson ⟨Nat.le_of_ble_eq_true rfl, Nat.le_of_ble_eq_true rfl⟩ ⟨Nat.zero_le _, Nat.zero_le _⟩ 0 rfl rfl rfl rfl (Nat.le_of_ble_eq_true rfl) dX0_meets_10 ?_
    intro hb4
    refine tw_if_eq (tgt := 21) X dX0_meets_13 rfl hf (fun q24 hf => ?_) (fun q24 hf => ?_)
    · clear q24
      refine tw_iconst (v := -1) X dX0_meets_21 rfl ?_
      exact tw_iret X hr (prj1 hf) (prj2 hf) dX0_meets_22
    · clear q24
      refine tw_iload_n X dX0_meets_16 rfl 1 rfl ?_
      refine tw_iload_n X dX0_meets_17 rfl 2 rfl ?_
      refine tw_icmp_ne (tgt := 23) X dX0_meets_18 rfl hf (fun q23 hf => ?_) (fun q23 hf => ?_)
      · clear q23
        refine tw_iconst (v := -1) X dX0_meets_21 rfl ?_
        exact tw_iret X hr (prj1 hf) (prj2 hf) dX0_meets_22
      · clear q23
        refine tw_aload_n X dX0_meets_23 rfl 0 rfl ?_
        refine tw_iload_n X dX0_meets_24 rfl 1 rfl ?_
        refine tw_iload_n X dX0_meets_25 rfl 2 rfl ?_
        obtain ⟨x5, hx5, hf⟩ := bnd hf
        refine tw_callVz (As := [.int a1, .int a2]) (st := []) X (kC_meet hx5) kGX0_195 kI_X0_meet ⟨Nat.le_of_ble_eq_true rfl, Nat.le_of_ble_eq_true rfl⟩ ⟨Nat.zero_le _, Nat.zero_le _⟩ 0 rfl rfl rfl rfl (Nat.le_of_ble_eq_true rfl) dX0_meets_26 ?_
        intro hb6
        refine bj_walk (P := fun j7 : Int32 => TW p l e (rom 2 43) s m args below meth c (MQ below (QI D vwCl A (kW K δ sr ρ dy) z.1 z.2) args s 0 0 A) D vwCl A (kW K δ sr ρ dy) 5 0 0 g 37 [(0, .ref (K 0)), (1, .int a1), (2, .int a2), (3, .int a3)] [.int j7]) hf ?_ ?_
        · intro j7 hf
          refine tw_istore (lv' := [(4, .int j7), (0, .ref (K 0)), (1, .int a1), (2, .int a2), (3, .int a3)]) X dX0_meets_37 (by decide) rfl ?_
          refine tw_aload_n X dX0_meets_39 rfl 1 rfl ?_
          refine kgX0_47_0 X  dX0_meets_40 ?_
          refine kgX0_178_3 X  dX0_meets_43 ?_
          refine tw_iload_n X dX0_meets_46 rfl 2 rfl ?_
          refine tw_iload_n X dX0_meets_47 rfl 4 rfl ?_
          refine bj_walk (P := fun j9 : Int32 => TW p l e (rom 2 43) s m args below meth c (MQ below (QI D vwCl A (kW K δ sr ρ dy) z.1 z.2) args s 0 0 A) D vwCl A (kW K δ sr ρ dy) 5 0 0 g 82 [(0, .ref (K 0)), (1, .int a1), (2, .int a2), (3, .int a3), (4, .int j7)] [.int j9, .int a1, .ref (K 49)]) hf ?_ ?_
          · intro j9 hf
            obtain ⟨g11, hg11, hf⟩ := bnd hf
            refine ksX0_49 X hg11 dX0_meets_82 ?_
            refine tw_aload_n X dX0_meets_83 rfl 0 rfl ?_
            refine kgX0_47_0 X  dX0_meets_84 ?_
            refine kgX0_178_3 X  dX0_meets_87 ?_
            refine tw_iload_n X dX0_meets_90 rfl 2 rfl ?_
            refine tw_iload_n X dX0_meets_91 rfl 3 rfl ?_
            refine tw_if_eq (tgt := 111) X dX0_meets_92 rfl hf (fun q16 hf => ?_) (fun q16 hf => ?_)
            · clear q16
              refine tw_aload_n X dX0_meets_111 rfl 0 rfl ?_
              refine kgX0_47_0 X  dX0_meets_112 ?_
              refine kgX0_178_3 X  dX0_meets_115 ?_
              refine tw_iload_n X dX0_meets_118 rfl 2 rfl ?_
              obtain ⟨x12, hx12, hf⟩ := bnd hf
              refine klX0_49 X hx12 dX0_meets_119 ?_
              refine tw_iconst (v := 1) X dX0_meets_120 rfl ?_
              refine tw_iload_n X dX0_meets_121 rfl 1 rfl ?_
              refine tw_ishl X dX0_meets_122 ?_
              refine tw_iconst (v := -1) X dX0_meets_123 rfl ?_
              refine tw_ixor X dX0_meets_124 ?_
              refine tw_iand X dX0_meets_125 ?_
              obtain ⟨g13, hg13, hf⟩ := bnd hf
              refine ksX0_49 X hg13 dX0_meets_126 ?_
              refine tw_iload X dX0_meets_127 4 rfl ?_
              exact tw_iret X hr (prj1 hf) (prj2 hf) dX0_meets_129
            · clear q16
              refine tw_aload_n X dX0_meets_95 rfl 0 rfl ?_
              refine kgX0_47_0 X  dX0_meets_96 ?_
              refine kgX0_178_3 X  dX0_meets_99 ?_
              refine tw_iload_n X dX0_meets_102 rfl 2 rfl ?_
              obtain ⟨x14, hx14, hf⟩ := bnd hf
              refine klX0_49 X hx14 dX0_meets_103 ?_
              refine tw_iconst (v := 1) X dX0_meets_104 rfl ?_
              refine tw_iload_n X dX0_meets_105 rfl 1 rfl ?_
              refine tw_ishl X dX0_meets_106 ?_
              refine tw_ior X dX0_meets_107 ?_
              refine tw_goto (tgt := 126) X dX0_meets_108 rfl ?_
              obtain ⟨g15, hg15, hf⟩ := bnd hf
              refine ksX0_49 X hg15 dX0_meets_126 ?_
              refine tw_iload X dX0_meets_127 4 rfl ?_
              exact tw_iret X hr (prj1 hf) (prj2 hf) dX0_meets_129
          · intro zz20 hf hk10
            refine tw_if_eq (tgt := 67) X dX0_meets_48 rfl hf (fun q19 hf => ?_) (fun q19 hf => ?_)
            · clear q19
              refine tw_aload_n X dX0_meets_67 rfl 1 rfl ?_
              refine kgX0_47_0 X  dX0_meets_68 ?_
              refine kgX0_178_3 X  dX0_meets_71 ?_
              refine tw_iload_n X dX0_meets_74 rfl 2 rfl ?_
              obtain ⟨x17, hx17, hf⟩ := bnd hf
              refine klX0_49 X hx17 dX0_meets_75 ?_
              refine tw_iconst (v := 1) X dX0_meets_76 rfl ?_
              refine tw_iload_n X dX0_meets_77 rfl 3 rfl ?_
              refine tw_ishl X dX0_meets_78 ?_
              refine tw_iconst (v := -1) X dX0_meets_79 rfl ?_
              refine tw_ixor X dX0_meets_80 ?_
              refine tw_iand X dX0_meets_81 ?_
              refine tw_sub [1, 2, 3, 4, 0] (lv' := [(0, .ref (K 0)), (1, .int a1), (2, .int a2), (3, .int a3), (4, .int j7)]) rfl ?_
              have hL := hk10 _ hf
              exact hL
            · clear q19
              refine tw_aload_n X dX0_meets_51 rfl 1 rfl ?_
              refine kgX0_47_0 X  dX0_meets_52 ?_
              refine kgX0_178_3 X  dX0_meets_55 ?_
              refine tw_iload_n X dX0_meets_58 rfl 2 rfl ?_
              obtain ⟨x18, hx18, hf⟩ := bnd hf
              refine klX0_49 X hx18 dX0_meets_59 ?_
              refine tw_iconst (v := 1) X dX0_meets_60 rfl ?_
              refine tw_iload_n X dX0_meets_61 rfl 3 rfl ?_
              refine tw_ishl X dX0_meets_62 ?_
              refine tw_ior X dX0_meets_63 ?_
              refine tw_goto (tgt := 82) X dX0_meets_64 rfl ?_
              refine tw_sub [1, 2, 3, 4, 0] (lv' := [(0, .ref (K 0)), (1, .int a1), (2, .int a2), (3, .int a3), (4, .int j7)]) rfl ?_
              have hL := hk10 _ hf
              exact hL
        · intro zz22 hf hk8
          refine tw_if_eq (tgt := 36) X dX0_meets_29 rfl hf (fun q21 hf => ?_) (fun q21 hf => ?_)
          · clear q21
            refine tw_iconst (v := 0) X dX0_meets_36 rfl ?_
            have hL := hk8 _ hf
            exact hL
          · clear q21
            refine tw_iconst (v := 1) X dX0_meets_32 rfl ?_
            refine tw_goto (tgt := 37) X dX0_meets_33 rfl ?_
            have hL := hk8 _ hf
            exact hL
noncomputable def kF_worth (g : St) (a1 : Int32) (a2 : Int32) : Option (Int32 × St) :=
  if (kF_isThing a1) = 0 then
    some ((-1 : Int32), g)
  else
    if (kF_isIn a2 (0 : Int32) (99 : Int32)) = 0 then
      some ((-1 : Int32), g)
    else
      (rd (g 50) 8 a1).bind fun x3 =>
      (wr g 50 8 a1 a2).bind fun g4 =>
      some (x3, g4)
set_option maxHeartbeats 4000000 in
theorem kC_worth {l : Launch} {D : va_G} {A : Nat → Prop} {K : Nat → Nat} {δ : Nat → ClassId} {sr ρ : Rf} {dy : va_W} {g : St} {a1 : Int32} {a2 : Int32} {z : Int32 × St} (hf : kF_worth g a1 a2 = some z) : Ct l yX0_worth cX0_worth 4 (some .int) 2 42 D vwCl (kT δ) A (kW K δ sr ρ dy) [.ref (K 0), .int a1, .int a2] g (QI D vwCl A (kW K δ sr ρ dy) z.1 z.2) := by
  unfold kF_worth at hf
  refine ct_intro (own := RX0) (lv0 := [(0, .ref (K 0)), (1, .int a1), (2, .int a2)]) (by decide) rfl (Nat.le_of_ble_eq_true rfl) rfl ?_
  intro p e s m args below meth c X hr
  refine tw_iload_n X dX0_worth_0 rfl 1 rfl ?_
  refine tw_callSz (As := [.int a1]) (st := []) X (kC_isThing (g := g) a1) kGX0_153 kI_X0_isThing ⟨Nat.le_of_ble_eq_true rfl, Nat.le_of_ble_eq_true rfl⟩ ⟨Nat.zero_le _, Nat.zero_le _⟩ rfl rfl (Nat.le_of_ble_eq_true rfl) dX0_worth_1 ?_
  intro hb1
  refine tw_if_eq (tgt := 17) X dX0_worth_4 rfl hf (fun q6 hf => ?_) (fun q6 hf => ?_)
  · clear q6
    refine tw_iconst (v := -1) X dX0_worth_17 rfl ?_
    exact tw_iret X hr (prj1 hf) (prj2 hf) dX0_worth_18
  · clear q6
    refine tw_iload_n X dX0_worth_7 rfl 2 rfl ?_
    refine tw_iconst (v := 0) X dX0_worth_8 rfl ?_
    refine tw_bipush (v := 99) X dX0_worth_9 rfl ?_
    refine tw_callSz (As := [.int a2, .int (0 : Int32), .int (99 : Int32)]) (st := []) X (kC_isIn (g := g) a2 (0 : Int32) (99 : Int32)) kGX0_149 kI_X0_isIn ⟨Nat.le_of_ble_eq_true rfl, Nat.le_of_ble_eq_true rfl⟩ ⟨Nat.zero_le _, Nat.zero_le _⟩ rfl rfl (Nat.le_of_ble_eq_true rfl) dX0_worth_11 ?_
    intro hb2
    refine tw_if_ne (tgt := 19) X dX0_worth_14 rfl hf (fun q5 hf => ?_) (fun q5 hf => ?_)
    · clear q5
      refine tw_iconst (v := -1) X dX0_worth_17 rfl ?_
      exact tw_iret X hr (prj1 hf) (prj2 hf) dX0_worth_18
    · clear q5
      refine tw_aload_n X dX0_worth_19 rfl 0 rfl ?_
      refine kgX0_47_0 X  dX0_worth_20 ?_
      refine kgX0_198_3 X  dX0_worth_23 ?_
      refine tw_iload_n X dX0_worth_26 rfl 1 rfl ?_
      obtain ⟨x3, hx3, hf⟩ := bnd hf
      refine klX0_50 X hx3 dX0_worth_27 ?_
      refine tw_istore_n (lv' := [(3, .int x3), (0, .ref (K 0)), (1, .int a1), (2, .int a2)]) X dX0_worth_28 rfl (by decide) rfl ?_
      refine tw_aload_n X dX0_worth_29 rfl 1 rfl ?_
      refine kgX0_47_0 X  dX0_worth_30 ?_
      refine kgX0_198_3 X  dX0_worth_33 ?_
      refine tw_iload_n X dX0_worth_36 rfl 2 rfl ?_
      refine tw_iload_n X dX0_worth_37 rfl 3 rfl ?_
      obtain ⟨g4, hg4, hf⟩ := bnd hf
      refine ksX0_50 X hg4 dX0_worth_38 ?_
      refine tw_iload_n X dX0_worth_39 rfl 0 rfl ?_
      exact tw_iret X hr (prj1 hf) (prj2 hf) dX0_worth_40
noncomputable def kF_jar (g : St) (a1 : Int32) (a2 : Int32) : Option (Int32 × St) :=
  if (kF_isThing a1) = 0 then
    some ((-1 : Int32), g)
  else
    if (kF_isIn a2 (0 : Int32) (9 : Int32)) = 0 then
      some ((-1 : Int32), g)
    else
      (rd (g 51) 8 a1).bind fun x3 =>
      (wr g 51 8 a1 a2).bind fun g4 =>
      some (x3, g4)
set_option maxHeartbeats 4000000 in
theorem kC_jar {l : Launch} {D : va_G} {A : Nat → Prop} {K : Nat → Nat} {δ : Nat → ClassId} {sr ρ : Rf} {dy : va_W} {g : St} {a1 : Int32} {a2 : Int32} {z : Int32 × St} (hf : kF_jar g a1 a2 = some z) : Ct l yX0_jar cX0_jar 4 (some .int) 2 42 D vwCl (kT δ) A (kW K δ sr ρ dy) [.ref (K 0), .int a1, .int a2] g (QI D vwCl A (kW K δ sr ρ dy) z.1 z.2) := by
  unfold kF_jar at hf
  refine ct_intro (own := RX0) (lv0 := [(0, .ref (K 0)), (1, .int a1), (2, .int a2)]) (by decide) rfl (Nat.le_of_ble_eq_true rfl) rfl ?_
  intro p e s m args below meth c X hr
  refine tw_iload_n X dX0_jar_0 rfl 1 rfl ?_
  refine tw_callSz (As := [.int a1]) (st := []) X (kC_isThing (g := g) a1) kGX0_153 kI_X0_isThing ⟨Nat.le_of_ble_eq_true rfl, Nat.le_of_ble_eq_true rfl⟩ ⟨Nat.zero_le _, Nat.zero_le _⟩ rfl rfl (Nat.le_of_ble_eq_true rfl) dX0_jar_1 ?_
  intro hb1
  refine tw_if_eq (tgt := 17) X dX0_jar_4 rfl hf (fun q6 hf => ?_) (fun q6 hf => ?_)
  · clear q6
    refine tw_iconst (v := -1) X dX0_jar_17 rfl ?_
    exact tw_iret X hr (prj1 hf) (prj2 hf) dX0_jar_18
  · clear q6
    refine tw_iload_n X dX0_jar_7 rfl 2 rfl ?_
    refine tw_iconst (v := 0) X dX0_jar_8 rfl ?_
    refine tw_bipush (v := 9) X dX0_jar_9 rfl ?_
    refine tw_callSz (As := [.int a2, .int (0 : Int32), .int (9 : Int32)]) (st := []) X (kC_isIn (g := g) a2 (0 : Int32) (9 : Int32)) kGX0_149 kI_X0_isIn ⟨Nat.le_of_ble_eq_true rfl, Nat.le_of_ble_eq_true rfl⟩ ⟨Nat.zero_le _, Nat.zero_le _⟩ rfl rfl (Nat.le_of_ble_eq_true rfl) dX0_jar_11 ?_
    intro hb2
    refine tw_if_ne (tgt := 19) X dX0_jar_14 rfl hf (fun q5 hf => ?_) (fun q5 hf => ?_)
    · clear q5
      refine tw_iconst (v := -1) X dX0_jar_17 rfl ?_
      exact tw_iret X hr (prj1 hf) (prj2 hf) dX0_jar_18
    · clear q5
      refine tw_aload_n X dX0_jar_19 rfl 0 rfl ?_
      refine kgX0_47_0 X  dX0_jar_20 ?_
      refine kgX0_201_3 X  dX0_jar_23 ?_
      refine tw_iload_n X dX0_jar_26 rfl 1 rfl ?_
      obtain ⟨x3, hx3, hf⟩ := bnd hf
      refine klX0_51 X hx3 dX0_jar_27 ?_
      refine tw_istore_n (lv' := [(3, .int x3), (0, .ref (K 0)), (1, .int a1), (2, .int a2)]) X dX0_jar_28 rfl (by decide) rfl ?_
      refine tw_aload_n X dX0_jar_29 rfl 1 rfl ?_
      refine kgX0_47_0 X  dX0_jar_30 ?_
      refine kgX0_201_3 X  dX0_jar_33 ?_
      refine tw_iload_n X dX0_jar_36 rfl 2 rfl ?_
      refine tw_iload_n X dX0_jar_37 rfl 3 rfl ?_
      obtain ⟨g4, hg4, hf⟩ := bnd hf
      refine ksX0_51 X hg4 dX0_jar_38 ?_
      refine tw_iload_n X dX0_jar_39 rfl 0 rfl ?_
      exact tw_iret X hr (prj1 hf) (prj2 hf) dX0_jar_40
noncomputable def kF_fee (g : St) (a1 : Int32) : Option (Int32 × St) :=
  if (kF_isIn a1 (0 : Int32) (50 : Int32)) = 0 then
    some ((-1 : Int32), g)
  else
    (pf g 40 1 a1).bind fun g2 =>
    some ((g 40 1), g2)
set_option maxHeartbeats 4000000 in
theorem kC_fee {l : Launch} {D : va_G} {A : Nat → Prop} {K : Nat → Nat} {δ : Nat → ClassId} {sr ρ : Rf} {dy : va_W} {g : St} {a1 : Int32} {z : Int32 × St} (hf : kF_fee g a1 = some z) : Ct l yX0_fee cX0_fee 3 (some .int) 1 22 D vwCl (kT δ) A (kW K δ sr ρ dy) [.ref (K 0), .int a1] g (QI D vwCl A (kW K δ sr ρ dy) z.1 z.2) := by
  unfold kF_fee at hf
  refine ct_intro (own := RX0) (lv0 := [(0, .ref (K 0)), (1, .int a1)]) (by decide) rfl (Nat.le_of_ble_eq_true rfl) rfl ?_
  intro p e s m args below meth c X hr
  refine tw_iload_n X dX0_fee_0 rfl 1 rfl ?_
  refine tw_iconst (v := 0) X dX0_fee_1 rfl ?_
  refine tw_bipush (v := 50) X dX0_fee_2 rfl ?_
  refine tw_callSz (As := [.int a1, .int (0 : Int32), .int (50 : Int32)]) (st := []) X (kC_isIn (g := g) a1 (0 : Int32) (50 : Int32)) kGX0_149 kI_X0_isIn ⟨Nat.le_of_ble_eq_true rfl, Nat.le_of_ble_eq_true rfl⟩ ⟨Nat.zero_le _, Nat.zero_le _⟩ rfl rfl (Nat.le_of_ble_eq_true rfl) dX0_fee_4 ?_
  intro hb1
  refine tw_if_ne (tgt := 12) X dX0_fee_7 rfl hf (fun q3 hf => ?_) (fun q3 hf => ?_)
  · clear q3
    refine tw_iconst (v := -1) X dX0_fee_10 rfl ?_
    exact tw_iret X hr (prj1 hf) (prj2 hf) dX0_fee_11
  · clear q3
    refine tw_aload_n X dX0_fee_12 rfl 0 rfl ?_
    refine kgX0_47_0 X  dX0_fee_13 ?_
    refine kgX0_204_3 X  dX0_fee_16 ?_
    refine tw_istore_n (lv' := [(2, .int (g 40 1)), (0, .ref (K 0)), (1, .int a1)]) X dX0_fee_19 rfl (by decide) rfl ?_
    refine tw_aload_n X dX0_fee_20 rfl 1 rfl ?_
    refine kgX0_47_0 X  dX0_fee_21 ?_
    refine tw_iload_n X dX0_fee_24 rfl 2 rfl ?_
    obtain ⟨g2, hg2, hf⟩ := bnd hf
    refine kpX0_204_3 X hg2 dX0_fee_25 ?_
    refine tw_iload_n X dX0_fee_28 rfl 0 rfl ?_
    exact tw_iret X hr (prj1 hf) (prj2 hf) dX0_fee_29
noncomputable def kF_those_0_46 (g : St) (a1 : Int32) : Option (Int32) :=
  iter (L := Int32 × Int32) (T := Int32) (un2 fun s1a s1b => 
    if (g 40 0) ≤ s1b then
      some (.inr s1a)
    else
      (rd (g 46) 6 s1b).bind fun x4 =>
      if x4 = a1 then
        some (.inl ((s1a ||| ((1 : Int32) <<< (s1b &&& 31))), (s1b + (1 : Int32))))
      else
        some (.inl ((s1a ||| (0 : Int32)), (s1b + (1 : Int32))))) ((0 : Int32), (0 : Int32))
set_option maxHeartbeats 4000000 in
theorem kC_those_0_46 {l : Launch} {D : va_G} {A : Nat → Prop} {K : Nat → Nat} {δ : Nat → ClassId} {sr ρ : Rf} {dy : va_W} {g : St} {a1 : Int32} {z : Int32} (hf : kF_those_0_46 g a1 = some z) : Ct l yX0_those cX0_those 5 (some .int) 0 0 D vwCl (kT δ) A (kW K δ sr ρ dy) [.ref (K 0), .int a1, .ref (K 46)] g (QI D vwCl A (kW K δ sr ρ dy) z g) := by
  unfold kF_those_0_46 at hf
  refine ct_intro (own := RX0) (lv0 := [(0, .ref (K 0)), (1, .int a1), (2, .ref (K 46))]) (by decide) rfl (Nat.le_of_ble_eq_true rfl) rfl ?_
  intro p e s m args below meth c X hr
  refine tw_iconst (v := 0) X dX0_those_0 rfl ?_
  refine tw_istore_n (lv' := [(3, .int (0 : Int32)), (0, .ref (K 0)), (1, .int a1), (2, .ref (K 46))]) X dX0_those_1 rfl (by decide) rfl ?_
  refine tw_iconst (v := 0) X dX0_those_2 rfl ?_
  refine tw_istore (lv' := [(4, .int (0 : Int32)), (3, .int (0 : Int32)), (0, .ref (K 0)), (1, .int a1), (2, .ref (K 46))]) X dX0_those_3 (by decide) rfl ?_
  refine tw_sub [2, 3, 4, 1, 0] (lv' := [(0, .ref (K 0)), (1, .int a1), (2, .ref (K 46)), (3, .int (0 : Int32)), (4, .int (0 : Int32))]) rfl ?_
  refine it_walk (P := un2 fun s1a s1b => TW p l e (rom 0 0) s m args below meth c (MQ below (QI D vwCl A (kW K δ sr ρ dy) z g) args s 0 0 A) D vwCl A (kW K δ sr ρ dy) 5 0 0 g 5 [(0, .ref (K 0)), (1, .int a1), (2, .ref (K 46)), (3, .int s1a), (4, .int s1b)] []) hf ?_
  rintro ⟨s1a, s1b⟩ zz7 hf hl2
  dsimp only [un2] at hf ⊢
  refine tw_iload X dX0_those_5 4 rfl ?_
  refine tw_aload_n X dX0_those_7 rfl 0 rfl ?_
  refine kgX0_47_0 X  dX0_those_8 ?_
  refine kgX0_147_3 X  dX0_those_11 ?_
  refine tw_icmp_ge (tgt := 42) X dX0_those_14 rfl hf (fun q6 hf => ?_) (fun q6 hf => ?_)
  · clear q6
    refine tw_iload_n X dX0_those_42 rfl 3 rfl ?_
    have hf3 := leafR hf hl2
    exact tw_iret X hr (Option.some.inj hf3) rfl dX0_those_43
  · clear q6
    refine tw_iload_n X dX0_those_17 rfl 3 rfl ?_
    refine tw_aload_n X dX0_those_18 rfl 2 rfl ?_
    refine tw_iload X dX0_those_19 4 rfl ?_
    obtain ⟨x4, hx4, hf⟩ := bnd hf
    refine klX0_46 X hx4 dX0_those_21 ?_
    refine tw_iload_n X dX0_those_22 rfl 1 rfl ?_
    refine tw_icmp_ne (tgt := 33) X dX0_those_23 rfl hf (fun q5 hf => ?_) (fun q5 hf => ?_)
    · clear q5
      refine tw_iconst (v := 1) X dX0_those_26 rfl ?_
      refine tw_iload X dX0_those_27 4 rfl ?_
      refine tw_ishl X dX0_those_29 ?_
      refine tw_goto (tgt := 34) X dX0_those_30 rfl ?_
      refine tw_ior X dX0_those_34 ?_
      refine tw_istore_n (lv' := [(3, .int (s1a ||| ((1 : Int32) <<< (s1b &&& 31)))), (0, .ref (K 0)), (1, .int a1), (2, .ref (K 46)), (4, .int s1b)]) X dX0_those_35 rfl (by decide) rfl ?_
      refine tw_iinc (q := 4) (v := (s1b + (1 : Int32))) (lv' := [(4, .int (s1b + (1 : Int32))), (3, .int (s1a ||| ((1 : Int32) <<< (s1b &&& 31)))), (0, .ref (K 0)), (1, .int a1), (2, .ref (K 46))]) X dX0_those_36 rfl rfl (by decide) rfl ?_
      refine tw_goto (tgt := 5) X dX0_those_39 rfl ?_
      refine tw_sub [2, 3, 4, 1, 0] (lv' := [(0, .ref (K 0)), (1, .int a1), (2, .ref (K 46)), (3, .int (s1a ||| ((1 : Int32) <<< (s1b &&& 31)))), (4, .int (s1b + (1 : Int32)))]) rfl ?_
      have hL := leafL hf hl2
      exact hL
    · clear q5
      refine tw_iconst (v := 0) X dX0_those_33 rfl ?_
      refine tw_ior X dX0_those_34 ?_
      refine tw_istore_n (lv' := [(3, .int (s1a ||| (0 : Int32))), (0, .ref (K 0)), (1, .int a1), (2, .ref (K 46)), (4, .int s1b)]) X dX0_those_35 rfl (by decide) rfl ?_
      refine tw_iinc (q := 4) (v := (s1b + (1 : Int32))) (lv' := [(4, .int (s1b + (1 : Int32))), (3, .int (s1a ||| (0 : Int32))), (0, .ref (K 0)), (1, .int a1), (2, .ref (K 46))]) X dX0_those_36 rfl rfl (by decide) rfl ?_
      refine tw_goto (tgt := 5) X dX0_those_39 rfl ?_
      refine tw_sub [2, 3, 4, 1, 0] (lv' := [(0, .ref (K 0)), (1, .int a1), (2, .ref (K 46)), (3, .int (s1a ||| (0 : Int32))), (4, .int (s1b + (1 : Int32)))]) rfl ?_
      have hL := leafL hf hl2
      exact hL
noncomputable def kF_those_0_47 (g : St) (a1 : Int32) : Option (Int32) :=
  iter (L := Int32 × Int32) (T := Int32) (un2 fun s1a s1b => 
    if (g 40 0) ≤ s1b then
      some (.inr s1a)
    else
      (rd (g 47) 6 s1b).bind fun x4 =>
      if x4 = a1 then
        some (.inl ((s1a ||| ((1 : Int32) <<< (s1b &&& 31))), (s1b + (1 : Int32))))
      else
        some (.inl ((s1a ||| (0 : Int32)), (s1b + (1 : Int32))))) ((0 : Int32), (0 : Int32))
set_option maxHeartbeats 4000000 in
theorem kC_those_0_47 {l : Launch} {D : va_G} {A : Nat → Prop} {K : Nat → Nat} {δ : Nat → ClassId} {sr ρ : Rf} {dy : va_W} {g : St} {a1 : Int32} {z : Int32} (hf : kF_those_0_47 g a1 = some z) : Ct l yX0_those cX0_those 5 (some .int) 0 0 D vwCl (kT δ) A (kW K δ sr ρ dy) [.ref (K 0), .int a1, .ref (K 47)] g (QI D vwCl A (kW K δ sr ρ dy) z g) := by
  unfold kF_those_0_47 at hf
  refine ct_intro (own := RX0) (lv0 := [(0, .ref (K 0)), (1, .int a1), (2, .ref (K 47))]) (by decide) rfl (Nat.le_of_ble_eq_true rfl) rfl ?_
  intro p e s m args below meth c X hr
  refine tw_iconst (v := 0) X dX0_those_0 rfl ?_
  refine tw_istore_n (lv' := [(3, .int (0 : Int32)), (0, .ref (K 0)), (1, .int a1), (2, .ref (K 47))]) X dX0_those_1 rfl (by decide) rfl ?_
  refine tw_iconst (v := 0) X dX0_those_2 rfl ?_
  refine tw_istore (lv' := [(4, .int (0 : Int32)), (3, .int (0 : Int32)), (0, .ref (K 0)), (1, .int a1), (2, .ref (K 47))]) X dX0_those_3 (by decide) rfl ?_
  refine tw_sub [2, 3, 4, 1, 0] (lv' := [(0, .ref (K 0)), (1, .int a1), (2, .ref (K 47)), (3, .int (0 : Int32)), (4, .int (0 : Int32))]) rfl ?_
  refine it_walk (P := un2 fun s1a s1b => TW p l e (rom 0 0) s m args below meth c (MQ below (QI D vwCl A (kW K δ sr ρ dy) z g) args s 0 0 A) D vwCl A (kW K δ sr ρ dy) 5 0 0 g 5 [(0, .ref (K 0)), (1, .int a1), (2, .ref (K 47)), (3, .int s1a), (4, .int s1b)] []) hf ?_
  rintro ⟨s1a, s1b⟩ zz7 hf hl2
  dsimp only [un2] at hf ⊢
  refine tw_iload X dX0_those_5 4 rfl ?_
  refine tw_aload_n X dX0_those_7 rfl 0 rfl ?_
  refine kgX0_47_0 X  dX0_those_8 ?_
  refine kgX0_147_3 X  dX0_those_11 ?_
  refine tw_icmp_ge (tgt := 42) X dX0_those_14 rfl hf (fun q6 hf => ?_) (fun q6 hf => ?_)
  · clear q6
    refine tw_iload_n X dX0_those_42 rfl 3 rfl ?_
    have hf3 := leafR hf hl2
    exact tw_iret X hr (Option.some.inj hf3) rfl dX0_those_43
  · clear q6
    refine tw_iload_n X dX0_those_17 rfl 3 rfl ?_
    refine tw_aload_n X dX0_those_18 rfl 2 rfl ?_
    refine tw_iload X dX0_those_19 4 rfl ?_
    obtain ⟨x4, hx4, hf⟩ := bnd hf
    refine klX0_47 X hx4 dX0_those_21 ?_
    refine tw_iload_n X dX0_those_22 rfl 1 rfl ?_
    refine tw_icmp_ne (tgt := 33) X dX0_those_23 rfl hf (fun q5 hf => ?_) (fun q5 hf => ?_)
    · clear q5
      refine tw_iconst (v := 1) X dX0_those_26 rfl ?_
      refine tw_iload X dX0_those_27 4 rfl ?_
      refine tw_ishl X dX0_those_29 ?_
      refine tw_goto (tgt := 34) X dX0_those_30 rfl ?_
      refine tw_ior X dX0_those_34 ?_
      refine tw_istore_n (lv' := [(3, .int (s1a ||| ((1 : Int32) <<< (s1b &&& 31)))), (0, .ref (K 0)), (1, .int a1), (2, .ref (K 47)), (4, .int s1b)]) X dX0_those_35 rfl (by decide) rfl ?_
      refine tw_iinc (q := 4) (v := (s1b + (1 : Int32))) (lv' := [(4, .int (s1b + (1 : Int32))), (3, .int (s1a ||| ((1 : Int32) <<< (s1b &&& 31)))), (0, .ref (K 0)), (1, .int a1), (2, .ref (K 47))]) X dX0_those_36 rfl rfl (by decide) rfl ?_
      refine tw_goto (tgt := 5) X dX0_those_39 rfl ?_
      refine tw_sub [2, 3, 4, 1, 0] (lv' := [(0, .ref (K 0)), (1, .int a1), (2, .ref (K 47)), (3, .int (s1a ||| ((1 : Int32) <<< (s1b &&& 31)))), (4, .int (s1b + (1 : Int32)))]) rfl ?_
      have hL := leafL hf hl2
      exact hL
    · clear q5
      refine tw_iconst (v := 0) X dX0_those_33 rfl ?_
      refine tw_ior X dX0_those_34 ?_
      refine tw_istore_n (lv' := [(3, .int (s1a ||| (0 : Int32))), (0, .ref (K 0)), (1, .int a1), (2, .ref (K 47)), (4, .int s1b)]) X dX0_those_35 rfl (by decide) rfl ?_
      refine tw_iinc (q := 4) (v := (s1b + (1 : Int32))) (lv' := [(4, .int (s1b + (1 : Int32))), (3, .int (s1a ||| (0 : Int32))), (0, .ref (K 0)), (1, .int a1), (2, .ref (K 47))]) X dX0_those_36 rfl rfl (by decide) rfl ?_
      refine tw_goto (tgt := 5) X dX0_those_39 rfl ?_
      refine tw_sub [2, 3, 4, 1, 0] (lv' := [(0, .ref (K 0)), (1, .int a1), (2, .ref (K 47)), (3, .int (s1a ||| (0 : Int32))), (4, .int (s1b + (1 : Int32)))]) rfl ?_
      have hL := leafL hf hl2
      exact hL
noncomputable def kF_thing (g : St) (a1 : Int32) (a2 : Int32) : Option (Int32) :=
  if (kF_isThing a1) = 0 then
    some (-1 : Int32)
  else
    if a2 = (0 : Int32) then
      (rd (g 50) 8 a1).bind fun x2 =>
      some x2
    else if a2 = (1 : Int32) then
      (rd (g 51) 8 a1).bind fun x4 =>
      some x4
    else if a2 = (2 : Int32) then
      (kF_those_0_46 g a1).bind fun x6 =>
      some x6
    else if a2 = (3 : Int32) then
      (kF_those_0_47 g a1).bind fun x8 =>
      some x8
    else 
      some (-1 : Int32)
set_option maxHeartbeats 4000000 in
theorem kC_thing {l : Launch} {D : va_G} {A : Nat → Prop} {K : Nat → Nat} {δ : Nat → ClassId} {sr ρ : Rf} {dy : va_W} {g : St} {a1 : Int32} {a2 : Int32} {z : Int32} (hf : kF_thing g a1 a2 = some z) : Ct l yX0_thing cX0_thing 3 (some .int) 2 42 D vwCl (kT δ) A (kW K δ sr ρ dy) [.ref (K 0), .int a1, .int a2] g (QI D vwCl A (kW K δ sr ρ dy) z g) := by
  unfold kF_thing at hf
  refine ct_intro (own := RX0) (lv0 := [(0, .ref (K 0)), (1, .int a1), (2, .int a2)]) (by decide) rfl (Nat.le_of_ble_eq_true rfl) rfl ?_
  intro p e s m args below meth c X hr
  refine tw_iload_n X dX0_thing_0 rfl 1 rfl ?_
  refine tw_callSz (As := [.int a1]) (st := []) X (kC_isThing (g := g) a1) kGX0_153 kI_X0_isThing ⟨Nat.le_of_ble_eq_true rfl, Nat.le_of_ble_eq_true rfl⟩ ⟨Nat.zero_le _, Nat.zero_le _⟩ rfl rfl (Nat.le_of_ble_eq_true rfl) dX0_thing_1 ?_
  intro hb1
  refine tw_if_ne (tgt := 9) X dX0_thing_4 rfl hf (fun q10 hf => ?_) (fun q10 hf => ?_)
  · clear q10
    refine tw_iconst (v := -1) X dX0_thing_7 rfl ?_
    exact tw_iret X hr (Option.some.inj hf) rfl dX0_thing_8
  · clear q10
    refine tw_iload_n X dX0_thing_9 rfl 2 rfl ?_
    by_cases w3 : a2 = (0 : Int32)
    · rw [if_pos w3] at hf
      refine tw_tableIn (off := 30) (tgt := 40) X dX0_thing_10 w3 (by decide) (by decide) rfl rfl ?_
      refine tw_aload_n X dX0_thing_40 rfl 0 rfl ?_
      refine kgX0_47_0 X  dX0_thing_41 ?_
      refine kgX0_198_3 X  dX0_thing_44 ?_
      refine tw_iload_n X dX0_thing_47 rfl 1 rfl ?_
      obtain ⟨x2, hx2, hf⟩ := bnd hf
      refine klX0_50 X hx2 dX0_thing_48 ?_
      exact tw_iret X hr (Option.some.inj hf) rfl dX0_thing_49
    · rw [if_neg w3] at hf
      by_cases w5 : a2 = (1 : Int32)
      · rw [if_pos w5] at hf
        refine tw_tableIn (off := 40) (tgt := 50) X dX0_thing_10 w5 (by decide) (by decide) rfl rfl ?_
        refine tw_aload_n X dX0_thing_50 rfl 0 rfl ?_
        refine kgX0_47_0 X  dX0_thing_51 ?_
        refine kgX0_201_3 X  dX0_thing_54 ?_
        refine tw_iload_n X dX0_thing_57 rfl 1 rfl ?_
        obtain ⟨x4, hx4, hf⟩ := bnd hf
        refine klX0_51 X hx4 dX0_thing_58 ?_
        exact tw_iret X hr (Option.some.inj hf) rfl dX0_thing_59
      · rw [if_neg w5] at hf
        by_cases w7 : a2 = (2 : Int32)
        · rw [if_pos w7] at hf
          refine tw_tableIn (off := 50) (tgt := 60) X dX0_thing_10 w7 (by decide) (by decide) rfl rfl ?_
          refine tw_aload_n X dX0_thing_60 rfl 0 rfl ?_
          refine tw_iload_n X dX0_thing_61 rfl 1 rfl ?_
          refine tw_aload_n X dX0_thing_62 rfl 0 rfl ?_
          refine kgX0_47_0 X  dX0_thing_63 ?_
          refine kgX0_174_3 X  dX0_thing_66 ?_
          obtain ⟨x6, hx6, hf⟩ := bnd hf
          refine tw_callVi (As := [.int a1, .ref (K 46)]) (st := []) X (kC_those_0_46 hx6) kGX0_207 kI_X0_those ⟨Nat.le_of_ble_eq_true rfl, Nat.le_of_ble_eq_true rfl⟩ ⟨Nat.zero_le _, Nat.zero_le _⟩ 0 rfl rfl rfl rfl (Nat.le_of_ble_eq_true rfl) dX0_thing_69 ?_
          exact tw_iret X hr (Option.some.inj hf) rfl dX0_thing_72
        · rw [if_neg w7] at hf
          by_cases w9 : a2 = (3 : Int32)
          · rw [if_pos w9] at hf
            refine tw_tableIn (off := 63) (tgt := 73) X dX0_thing_10 w9 (by decide) (by decide) rfl rfl ?_
            refine tw_aload_n X dX0_thing_73 rfl 0 rfl ?_
            refine tw_iload_n X dX0_thing_74 rfl 1 rfl ?_
            refine tw_aload_n X dX0_thing_75 rfl 0 rfl ?_
            refine kgX0_47_0 X  dX0_thing_76 ?_
            refine kgX0_160_3 X  dX0_thing_79 ?_
            obtain ⟨x8, hx8, hf⟩ := bnd hf
            refine tw_callVi (As := [.int a1, .ref (K 47)]) (st := []) X (kC_those_0_47 hx8) kGX0_207 kI_X0_those ⟨Nat.le_of_ble_eq_true rfl, Nat.le_of_ble_eq_true rfl⟩ ⟨Nat.zero_le _, Nat.zero_le _⟩ 0 rfl rfl rfl rfl (Nat.le_of_ble_eq_true rfl) dX0_thing_82 ?_
            exact tw_iret X hr (Option.some.inj hf) rfl dX0_thing_85
          · rw [if_neg w9] at hf
            refine tw_tableOut (tgt := 86) X dX0_thing_10 (by have w3' : a2.toInt ≠ 0 := i32_ne w3; have w5' : a2.toInt ≠ 1 := i32_ne w5; have w7' : a2.toInt ≠ 2 := i32_ne w7; have w9' : a2.toInt ≠ 3 := i32_ne w9; omega) rfl ?_
            refine tw_iconst (v := -1) X dX0_thing_86 rfl ?_
            exact tw_iret X hr (Option.some.inj hf) rfl dX0_thing_87
noncomputable def kF_X3_purse (g : St) : Option (Int32) :=
  iter (L := Int32 × Int32) (T := Int32) (un2 fun s1a s1b => 
    if (g 40 0) ≤ s1b then
      some (.inr s1a)
    else
      (rd (g 48) 6 s1b).bind fun x4 =>
      some (.inl ((s1a + x4), (s1b + (1 : Int32))))) ((0 : Int32), (0 : Int32))
set_option maxHeartbeats 4000000 in
theorem kC_X3_purse {l : Launch} {D : va_G} {A : Nat → Prop} {K : Nat → Nat} {δ : Nat → ClassId} {sr ρ : Rf} {dy : va_W} {g : St} {z : Int32} (hf : kF_X3_purse g = some z) : Ct l yX3_purse cX3_purse 3 (some .int) 0 0 D vwCl (kT δ) A (kW K δ sr ρ dy) [.ref (K 3)] g (QI D vwCl A (kW K δ sr ρ dy) z g) := by
  unfold kF_X3_purse at hf
  refine ct_intro (own := RX3) (lv0 := [(0, .ref (K 3))]) (by decide) rfl (Nat.le_of_ble_eq_true rfl) rfl ?_
  intro p e s m args below meth c X hr
  refine tw_iconst (v := 0) X dX3_purse_0 rfl ?_
  refine tw_istore_n (lv' := [(1, .int (0 : Int32)), (0, .ref (K 3))]) X dX3_purse_1 rfl (by decide) rfl ?_
  refine tw_iconst (v := 0) X dX3_purse_2 rfl ?_
  refine tw_istore_n (lv' := [(2, .int (0 : Int32)), (1, .int (0 : Int32)), (0, .ref (K 3))]) X dX3_purse_3 rfl (by decide) rfl ?_
  refine tw_sub [2, 1, 0] (lv' := [(0, .ref (K 3)), (1, .int (0 : Int32)), (2, .int (0 : Int32))]) rfl ?_
  refine it_walk (P := un2 fun s1a s1b => TW p l e (rom 0 0) s m args below meth c (MQ below (QI D vwCl A (kW K δ sr ρ dy) z g) args s 0 0 A) D vwCl A (kW K δ sr ρ dy) 3 0 0 g 4 [(0, .ref (K 3)), (1, .int s1a), (2, .int s1b)] []) hf ?_
  rintro ⟨s1a, s1b⟩ zz6 hf hl2
  dsimp only [un2] at hf ⊢
  refine tw_iload_n X dX3_purse_4 rfl 2 rfl ?_
  refine tw_aload_n X dX3_purse_5 rfl 0 rfl ?_
  refine kgX3_61_3 X  dX3_purse_6 ?_
  refine tw_icmp_ge (tgt := 27) X dX3_purse_9 rfl hf (fun q5 hf => ?_) (fun q5 hf => ?_)
  · clear q5
    refine tw_iload_n X dX3_purse_27 rfl 1 rfl ?_
    have hf3 := leafR hf hl2
    exact tw_iret X hr (Option.some.inj hf3) rfl dX3_purse_28
  · clear q5
    refine tw_iload_n X dX3_purse_12 rfl 1 rfl ?_
    refine tw_aload_n X dX3_purse_13 rfl 0 rfl ?_
    refine kgX3_25_3 X  dX3_purse_14 ?_
    refine tw_iload_n X dX3_purse_17 rfl 2 rfl ?_
    obtain ⟨x4, hx4, hf⟩ := bnd hf
    refine klX3_48 X hx4 dX3_purse_18 ?_
    refine tw_iadd X dX3_purse_19 ?_
    refine tw_istore_n (lv' := [(1, .int (s1a + x4)), (0, .ref (K 3)), (2, .int s1b)]) X dX3_purse_20 rfl (by decide) rfl ?_
    refine tw_iinc (q := 2) (v := (s1b + (1 : Int32))) (lv' := [(2, .int (s1b + (1 : Int32))), (1, .int (s1a + x4)), (0, .ref (K 3))]) X dX3_purse_21 rfl rfl (by decide) rfl ?_
    refine tw_goto (tgt := 4) X dX3_purse_24 rfl ?_
    refine tw_sub [2, 1, 0] (lv' := [(0, .ref (K 3)), (1, .int (s1a + x4)), (2, .int (s1b + (1 : Int32)))]) rfl ?_
    have hL := leafL hf hl2
    exact hL
noncomputable def kF_state (g : St) (a1 : Int32) : Option (Int32) :=
  if a1 = (0 : Int32) then
    (kF_X3_whole g).bind fun x1 =>
    some x1
  else if a1 = (1 : Int32) then
    (kF_X3_purse g).bind fun x3 =>
    some x3
  else if a1 = (2 : Int32) then
    some (g 40 1)
  else if a1 = (3 : Int32) then
    some (g 40 3)
  else 
    some (-1 : Int32)
set_option maxHeartbeats 4000000 in
theorem kC_state {l : Launch} {D : va_G} {A : Nat → Prop} {K : Nat → Nat} {δ : Nat → ClassId} {sr ρ : Rf} {dy : va_W} {g : St} {a1 : Int32} {z : Int32} (hf : kF_state g a1 = some z) : Ct l yX0_state cX0_state 2 (some .int) 2 43 D vwCl (kT δ) A (kW K δ sr ρ dy) [.ref (K 0), .int a1] g (QI D vwCl A (kW K δ sr ρ dy) z g) := by
  unfold kF_state at hf
  refine ct_intro (own := RX0) (lv0 := [(0, .ref (K 0)), (1, .int a1)]) (by decide) rfl (Nat.le_of_ble_eq_true rfl) rfl ?_
  intro p e s m args below meth c X hr
  refine tw_iload_n X dX0_state_0 rfl 1 rfl ?_
  by_cases w2 : a1 = (0 : Int32)
  · rw [if_pos w2] at hf
    refine tw_tableIn (off := 31) (tgt := 32) X dX0_state_1 w2 (by decide) (by decide) rfl rfl ?_
    refine tw_aload_n X dX0_state_32 rfl 0 rfl ?_
    refine kgX0_47_0 X  dX0_state_33 ?_
    obtain ⟨x1, hx1, hf⟩ := bnd hf
    refine tw_callVi (As := []) (st := []) X (kC_X3_whole hx1) kGX0_211 kI_X3_whole ⟨Nat.le_of_ble_eq_true rfl, Nat.le_of_ble_eq_true rfl⟩ ⟨Nat.zero_le _, Nat.zero_le _⟩ 3 rfl rfl rfl rfl (Nat.le_of_ble_eq_true rfl) dX0_state_36 ?_
    exact tw_iret X hr (Option.some.inj hf) rfl dX0_state_39
  · rw [if_neg w2] at hf
    by_cases w4 : a1 = (1 : Int32)
    · rw [if_pos w4] at hf
      refine tw_tableIn (off := 39) (tgt := 40) X dX0_state_1 w4 (by decide) (by decide) rfl rfl ?_
      refine tw_aload_n X dX0_state_40 rfl 0 rfl ?_
      refine kgX0_47_0 X  dX0_state_41 ?_
      obtain ⟨x3, hx3, hf⟩ := bnd hf
      refine tw_callVi (As := []) (st := []) X (kC_X3_purse hx3) kGX0_214 kI_X3_purse ⟨Nat.le_of_ble_eq_true rfl, Nat.le_of_ble_eq_true rfl⟩ ⟨Nat.zero_le _, Nat.zero_le _⟩ 3 rfl rfl rfl rfl (Nat.le_of_ble_eq_true rfl) dX0_state_44 ?_
      exact tw_iret X hr (Option.some.inj hf) rfl dX0_state_47
    · rw [if_neg w4] at hf
      by_cases w5 : a1 = (2 : Int32)
      · rw [if_pos w5] at hf
        refine tw_tableIn (off := 47) (tgt := 48) X dX0_state_1 w5 (by decide) (by decide) rfl rfl ?_
        refine tw_aload_n X dX0_state_48 rfl 0 rfl ?_
        refine kgX0_47_0 X  dX0_state_49 ?_
        refine kgX0_204_3 X  dX0_state_52 ?_
        exact tw_iret X hr (Option.some.inj hf) rfl dX0_state_55
      · rw [if_neg w5] at hf
        by_cases w6 : a1 = (3 : Int32)
        · rw [if_pos w6] at hf
          refine tw_tableIn (off := 55) (tgt := 56) X dX0_state_1 w6 (by decide) (by decide) rfl rfl ?_
          refine tw_aload_n X dX0_state_56 rfl 0 rfl ?_
          refine kgX0_47_0 X  dX0_state_57 ?_
          refine kgX0_217_3 X  dX0_state_60 ?_
          exact tw_iret X hr (Option.some.inj hf) rfl dX0_state_63
        · rw [if_neg w6] at hf
          refine tw_tableOut (tgt := 64) X dX0_state_1 (by have w2' : a1.toInt ≠ 0 := i32_ne w2; have w4' : a1.toInt ≠ 1 := i32_ne w4; have w5' : a1.toInt ≠ 2 := i32_ne w5; have w6' : a1.toInt ≠ 3 := i32_ne w6; omega) rfl ?_
          refine tw_iconst (v := -1) X dX0_state_64 rfl ?_
          exact tw_iret X hr (Option.some.inj hf) rfl dX0_state_65
noncomputable def kF_feed (g : St) (a1 : Int64) (a2 : Int32) : Option (Int32 × St) :=
  if (kF_isIn a2 (1 : Int32) (8 : Int32)) = 0 then
    some ((-1 : Int32), g)
  else
    if ((g 0 11) + a2) ≤ (200 : Int32) then
      Option.bind (α := St) (β := Int32 × St)
        (iter (L := St × Int32) (T := St) (un2 fun s5a s5b => 
          if a2 ≤ s5b then
            some (.inr s5a)
          else
            (wr s5a 11 200 ((s5a 0 11) + s5b) (vp_nar .byte (((a1 >>> ((((8 : Int32) * s5b)).toInt64 &&& 63))).toInt32).toInt8.toInt32)).bind fun g8 =>
            some (.inl (g8, (s5b + (1 : Int32))))) (g, (0 : Int32)))
        (fun j2 => (pf j2 0 11 ((j2 0 11) + a2)).bind fun g4 =>
        some ((g4 0 11), g4))
    else
      some ((-2 : Int32), g)
set_option maxHeartbeats 4000000 in
theorem kC_feed {l : Launch} {D : va_G} {A : Nat → Prop} {K : Nat → Nat} {δ : Nat → ClassId} {sr ρ : Rf} {dy : va_W} {g : St} {a1 : Int64} {a2 : Int32} {z : Int32 × St} (hf : kF_feed g a1 a2 = some z) : Ct l yX0_feed cX0_feed 5 (some .int) 1 22 D vwCl (kT δ) A (kW K δ sr ρ dy) [.ref (K 0), .long a1, .int a2] g (QI D vwCl A (kW K δ sr ρ dy) z.1 z.2) := by
  unfold kF_feed at hf
  refine ct_intro (own := RX0) (lv0 := [(0, .ref (K 0)), (1, .long a1), (3, .int a2)]) (by decide) rfl (Nat.le_of_ble_eq_true rfl) rfl ?_
  intro p e s m args below meth c X hr
  refine tw_iload_n X dX0_feed_0 rfl 2 rfl ?_
  refine tw_iconst (v := 1) X dX0_feed_1 rfl ?_
  refine tw_bipush (v := 8) X dX0_feed_2 rfl ?_
  refine tw_callSz (As := [.int a2, .int (1 : Int32), .int (8 : Int32)]) (st := []) X (kC_isIn (g := g) a2 (1 : Int32) (8 : Int32)) kGX0_149 kI_X0_isIn ⟨Nat.le_of_ble_eq_true rfl, Nat.le_of_ble_eq_true rfl⟩ ⟨Nat.zero_le _, Nat.zero_le _⟩ rfl rfl (Nat.le_of_ble_eq_true rfl) dX0_feed_4 ?_
  intro hb1
  refine tw_if_ne (tgt := 12) X dX0_feed_7 rfl hf (fun q13 hf => ?_) (fun q13 hf => ?_)
  · clear q13
    refine tw_iconst (v := -1) X dX0_feed_10 rfl ?_
    exact tw_iret X hr (prj1 hf) (prj2 hf) dX0_feed_11
  · clear q13
    refine tw_aload_n X dX0_feed_12 rfl 0 rfl ?_
    refine kgX0_219_0 X  dX0_feed_13 ?_
    refine tw_iload_n X dX0_feed_16 rfl 2 rfl ?_
    refine tw_iadd X dX0_feed_17 ?_
    refine tw_sipush (v := 200) X dX0_feed_18 rfl ?_
    refine tw_icmp_le (tgt := 27) X dX0_feed_21 rfl hf (fun q12 hf => ?_) (fun q12 hf => ?_)
    · clear q12
      refine tw_iconst (v := 0) X dX0_feed_27 rfl ?_
      refine tw_istore (lv' := [(4, .int (0 : Int32)), (0, .ref (K 0)), (1, .long a1), (3, .int a2)]) X dX0_feed_28 (by decide) rfl ?_
      refine bj_walk (P := fun j2 : St => TW p l e (rom 1 22) s m args below meth c (MQ below (QI D vwCl A (kW K δ sr ρ dy) z.1 z.2) args s 0 0 A) D vwCl A (kW K δ sr ρ dy) 5 0 0 j2 63 [(0, .ref (K 0)), (3, .int a2)] []) hf ?_ ?_
      · intro j2 hf
        refine tw_aload_n X dX0_feed_63 rfl 0 rfl ?_
        refine tw_dup X dX0_feed_64 rfl ?_
        refine kgX0_219_0 X  dX0_feed_65 ?_
        refine tw_iload_n X dX0_feed_68 rfl 1 rfl ?_
        refine tw_iadd X dX0_feed_69 ?_
        obtain ⟨g4, hg4, hf⟩ := bnd hf
        refine kpX0_219_0 X hg4 dX0_feed_70 ?_
        refine tw_aload_n X dX0_feed_73 rfl 0 rfl ?_
        refine kgX0_219_0 X  dX0_feed_74 ?_
        exact tw_iret X hr (prj1 hf) (prj2 hf) dX0_feed_77
      · intro zz11 hf hk3
        refine tw_sub [1, 2, 3, 0] (lv' := [(0, .ref (K 0)), (1, .long a1), (3, .int a2), (4, .int (0 : Int32))]) rfl ?_
        refine it_walk (P := un2 fun s5a s5b => TW p l e (rom 1 22) s m args below meth c (MQ below (QI D vwCl A (kW K δ sr ρ dy) z.1 z.2) args s 0 0 A) D vwCl A (kW K δ sr ρ dy) 5 0 0 s5a 30 [(0, .ref (K 0)), (1, .long a1), (3, .int a2), (4, .int s5b)] []) hf ?_
        rintro ⟨s5a, s5b⟩ zz10 hf hl6
        dsimp only [un2] at hf ⊢
        refine tw_iload X dX0_feed_30 3 rfl ?_
        refine tw_iload_n X dX0_feed_32 rfl 2 rfl ?_
        refine tw_icmp_ge (tgt := 63) X dX0_feed_33 rfl hf (fun q9 hf => ?_) (fun q9 hf => ?_)
        · clear q9
          have hf7 := leafR hf hl6
          refine tw_sub [0, 2] (lv' := [(0, .ref (K 0)), (3, .int a2)]) rfl ?_
          have hL := hk3 _ hf7
          exact hL
        · clear q9
          refine tw_aload_n X dX0_feed_36 rfl 0 rfl ?_
          refine kgX0_103_0 X  dX0_feed_37 ?_
          refine tw_aload_n X dX0_feed_40 rfl 0 rfl ?_
          refine kgX0_219_0 X  dX0_feed_41 ?_
          refine tw_iload X dX0_feed_44 3 rfl ?_
          refine tw_iadd X dX0_feed_46 ?_
          refine tw_lload_n X dX0_feed_47 rfl 1 rfl ?_
          refine tw_bipush (v := 8) X dX0_feed_48 rfl ?_
          refine tw_iload X dX0_feed_50 3 rfl ?_
          refine tw_imul X dX0_feed_52 ?_
          refine tw_lshr X dX0_feed_53 ?_
          refine tw_l2i X dX0_feed_54 ?_
          refine tw_i2b X dX0_feed_55 ?_
          obtain ⟨g8, hg8, hf⟩ := bnd hf
          refine ksX0_11 X hg8 dX0_feed_56 ?_
          refine tw_iinc (q := 3) (v := (s5b + (1 : Int32))) (lv' := [(4, .int (s5b + (1 : Int32))), (0, .ref (K 0)), (1, .long a1), (3, .int a2)]) X dX0_feed_57 rfl rfl (by decide) rfl ?_
          refine tw_goto (tgt := 30) X dX0_feed_60 rfl ?_
          refine tw_sub [1, 2, 3, 0] (lv' := [(0, .ref (K 0)), (1, .long a1), (3, .int a2), (4, .int (s5b + (1 : Int32)))]) rfl ?_
          have hL := leafL hf hl6
          exact hL
    · clear q12
      refine tw_bipush (v := -2) X dX0_feed_24 rfl ?_
      exact tw_iret X hr (prj1 hf) (prj2 hf) dX0_feed_26
