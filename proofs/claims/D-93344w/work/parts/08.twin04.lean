/-! THE TWIN's METHODS: a function and a contract each (printed by gen/mk_twin.py) -/
set_option maxRecDepth 100000
noncomputable def tF_ring (g : St) (a1 : Int32) (a2 : Int32) : Option (Int32 × St) :=
  if (tF_in (a1).toInt64 (2 : Int64) (6 : Int64)) = 0 then
    some ((-1 : Int32), g)
  else
    if (tF_in (a2).toInt64 (0 : Int64) ((a1 - (1 : Int32))).toInt64) = 0 then
      some ((-1 : Int32), g)
    else
      (tF_findRings g a1).bind fun g3 =>
      if (g3 0 18) = 0 then
        some ((-3 : Int32), g3)
      else
        (rd (g3 18) 6 a2).bind fun x4 =>
        some (x4, g3)
set_option maxHeartbeats 4000000 in
theorem tC_ring {l : Launch} {D : va_G} {A : Nat → Prop} {o : Nat} {ad : Nat → Nat} {dI : ClassId} {g : St} {a1 : Int32} {a2 : Int32} {z : Int32 × St} (hf : tF_ring g a1 a2 = some z) : Ct l yX6_ring cX6_ring 3 (some .int) 14 334 D vwCl [(dI, .int)] A (tW o ad dI) [.ref o, .int a1, .int a2] g (QI D vwCl A (tW o ad dI) z.1 z.2) := by
  unfold tF_ring at hf
  refine ct_intro (own := RX6) (lv0 := [(0, .ref o), (1, .int a1), (2, .int a2)]) (by decide) rfl (Nat.le_of_ble_eq_true rfl) rfl ?_
  intro p e s m args below meth c X hr
  refine tw_iload_n X dX6_ring_0 rfl 1 rfl ?_
  refine tw_i2l X dX6_ring_1 ?_
  refine tw_ldc2 (v := 2) X q1879 dX6_ring_2 ?_
  refine tw_ldc2 (v := 6) X q1677 dX6_ring_5 ?_
  refine tw_callSz (As := [.long (a1).toInt64, .long (2 : Int64), .long (6 : Int64)]) (st := []) X (tC_in (g := g) (a1).toInt64 (2 : Int64) (6 : Int64)) tG_in tI_in ⟨Nat.le_of_ble_eq_true rfl, Nat.le_of_ble_eq_true rfl⟩ ⟨Nat.zero_le _, Nat.zero_le _⟩ rfl rfl (Nat.le_of_ble_eq_true rfl) dX6_ring_8 ?_
  intro hb1
  refine tw_if_eq (tgt := 27) X dX6_ring_11 rfl hf (fun q7 hf => ?_) (fun q7 hf => ?_)
  · clear q7
    refine tw_iconst (v := -1) X dX6_ring_27 rfl ?_
    exact tw_iret X hr (prj1 hf) (prj2 hf) dX6_ring_28
  · clear q7
    refine tw_iload_n X dX6_ring_14 rfl 2 rfl ?_
    refine tw_i2l X dX6_ring_15 ?_
    refine tw_lconst (v := 0) X dX6_ring_16 rfl ?_
    refine tw_iload_n X dX6_ring_17 rfl 1 rfl ?_
    refine tw_iconst (v := 1) X dX6_ring_18 rfl ?_
    refine tw_isub X dX6_ring_19 ?_
    refine tw_i2l X dX6_ring_20 ?_
    refine tw_callSz (As := [.long (a2).toInt64, .long (0 : Int64), .long ((a1 - (1 : Int32))).toInt64]) (st := []) X (tC_in (g := g) (a2).toInt64 (0 : Int64) ((a1 - (1 : Int32))).toInt64) tG_in tI_in ⟨Nat.le_of_ble_eq_true rfl, Nat.le_of_ble_eq_true rfl⟩ ⟨Nat.zero_le _, Nat.zero_le _⟩ rfl rfl (Nat.le_of_ble_eq_true rfl) dX6_ring_21 ?_
    intro hb2
    refine tw_if_ne (tgt := 29) X dX6_ring_24 rfl hf (fun q6 hf => ?_) (fun q6 hf => ?_)
    · clear q6
      refine tw_iconst (v := -1) X dX6_ring_27 rfl ?_
      exact tw_iret X hr (prj1 hf) (prj2 hf) dX6_ring_28
    · clear q6
      refine tw_aload_n X dX6_ring_29 rfl 0 rfl ?_
      refine tw_iload_n X dX6_ring_30 rfl 1 rfl ?_
      obtain ⟨g3, hg3, hf⟩ := bnd hf
      refine tw_callVv (As := [.int a1]) (st := []) X (tC_findRings hg3) tG_findRings tI_findRings ⟨Nat.le_of_ble_eq_true rfl, Nat.le_of_ble_eq_true rfl⟩ ⟨Nat.zero_le _, Nat.zero_le _⟩ 0 rfl rfl rfl rfl (Nat.le_of_ble_eq_true rfl) dX6_ring_31 ?_
      refine tw_aload_n X dX6_ring_34 rfl 0 rfl ?_
      refine tg_ringMany X  dX6_ring_35 ?_
      refine tw_if_ne (tgt := 46) X dX6_ring_38 rfl hf (fun q5 hf => ?_) (fun q5 hf => ?_)
      · clear q5
        refine tw_bipush (v := -3) X dX6_ring_41 rfl ?_
        refine tw_goto (tgt := 52) X dX6_ring_43 rfl ?_
        exact tw_iret X hr (prj1 hf) (prj2 hf) dX6_ring_52
      · clear q5
        refine tw_aload_n X dX6_ring_46 rfl 0 rfl ?_
        refine tg_firstCircle X  dX6_ring_47 ?_
        refine tw_iload_n X dX6_ring_50 rfl 2 rfl ?_
        obtain ⟨x4, hx4, hf⟩ := bnd hf
        refine ta_firstCircle X hx4 dX6_ring_51 ?_
        exact tw_iret X hr (prj1 hf) (prj2 hf) dX6_ring_52
noncomputable def tF_span (g : St) (a1 : Int32) : Option (Int32 × St) :=
  if (tF_in (a1).toInt64 (0 : Int64) (2 : Int64)) = 0 then
    some ((-1 : Int32), g)
  else
    (tF_findFits g (-1 : Int32)).bind fun g2 =>
    if a1 = 0 then
      some ((g2 0 20), g2)
    else
      if (g2 0 20) = 0 then
        some ((-3 : Int32), g2)
      else
        if a1 = (1 : Int32) then
          some ((g2 0 21), g2)
        else
          some ((g2 0 22), g2)
set_option maxHeartbeats 4000000 in
theorem tC_span {l : Launch} {D : va_G} {A : Nat → Prop} {o : Nat} {ad : Nat → Nat} {dI : ClassId} {g : St} {a1 : Int32} {z : Int32 × St} (hf : tF_span g a1 = some z) : Ct l yX6_span cX6_span 2 (some .int) 3 68 D vwCl [(dI, .int)] A (tW o ad dI) [.ref o, .int a1] g (QI D vwCl A (tW o ad dI) z.1 z.2) := by
  unfold tF_span at hf
  refine ct_intro (own := RX6) (lv0 := [(0, .ref o), (1, .int a1)]) (by decide) rfl (Nat.le_of_ble_eq_true rfl) rfl ?_
  intro p e s m args below meth c X hr
  refine tw_iload_n X dX6_span_0 rfl 1 rfl ?_
  refine tw_i2l X dX6_span_1 ?_
  refine tw_lconst (v := 0) X dX6_span_2 rfl ?_
  refine tw_ldc2 (v := 2) X q1879 dX6_span_3 ?_
  refine tw_callSz (As := [.long (a1).toInt64, .long (0 : Int64), .long (2 : Int64)]) (st := []) X (tC_in (g := g) (a1).toInt64 (0 : Int64) (2 : Int64)) tG_in tI_in ⟨Nat.le_of_ble_eq_true rfl, Nat.le_of_ble_eq_true rfl⟩ ⟨Nat.zero_le _, Nat.zero_le _⟩ rfl rfl (Nat.le_of_ble_eq_true rfl) dX6_span_6 ?_
  intro hb1
  refine tw_if_ne (tgt := 14) X dX6_span_9 rfl hf (fun q6 hf => ?_) (fun q6 hf => ?_)
  · clear q6
    refine tw_iconst (v := -1) X dX6_span_12 rfl ?_
    exact tw_iret X hr (prj1 hf) (prj2 hf) dX6_span_13
  · clear q6
    refine tw_aload_n X dX6_span_14 rfl 0 rfl ?_
    refine tw_iconst (v := -1) X dX6_span_15 rfl ?_
    obtain ⟨g2, hg2, hf⟩ := bnd hf
    refine tw_callVv (As := [.int (-1 : Int32)]) (st := []) X (tC_findFits hg2) tG_findFits tI_findFits ⟨Nat.le_of_ble_eq_true rfl, Nat.le_of_ble_eq_true rfl⟩ ⟨Nat.zero_le _, Nat.zero_le _⟩ 0 rfl rfl rfl rfl (Nat.le_of_ble_eq_true rfl) dX6_span_16 ?_
    refine tw_iload_n X dX6_span_19 rfl 1 rfl ?_
    refine tw_if_ne (tgt := 30) X dX6_span_20 rfl hf (fun q5 hf => ?_) (fun q5 hf => ?_)
    · clear q5
      refine tw_aload_n X dX6_span_23 rfl 0 rfl ?_
      refine tg_fitMany X  dX6_span_24 ?_
      refine tw_goto (tgt := 58) X dX6_span_27 rfl ?_
      exact tw_iret X hr (prj1 hf) (prj2 hf) dX6_span_58
    · clear q5
      refine tw_aload_n X dX6_span_30 rfl 0 rfl ?_
      refine tg_fitMany X  dX6_span_31 ?_
      refine tw_if_ne (tgt := 42) X dX6_span_34 rfl hf (fun q4 hf => ?_) (fun q4 hf => ?_)
      · clear q4
        refine tw_bipush (v := -3) X dX6_span_37 rfl ?_
        refine tw_goto (tgt := 58) X dX6_span_39 rfl ?_
        exact tw_iret X hr (prj1 hf) (prj2 hf) dX6_span_58
      · clear q4
        refine tw_iload_n X dX6_span_42 rfl 1 rfl ?_
        refine tw_iconst (v := 1) X dX6_span_43 rfl ?_
        refine tw_icmp_ne (tgt := 54) X dX6_span_44 rfl hf (fun q3 hf => ?_) (fun q3 hf => ?_)
        · clear q3
          refine tw_aload_n X dX6_span_47 rfl 0 rfl ?_
          refine tg_fitTimes X  dX6_span_48 ?_
          refine tw_goto (tgt := 58) X dX6_span_51 rfl ?_
          exact tw_iret X hr (prj1 hf) (prj2 hf) dX6_span_58
        · clear q3
          refine tw_aload_n X dX6_span_54 rfl 0 rfl ?_
          refine tg_fitFee X  dX6_span_55 ?_
          exact tw_iret X hr (prj1 hf) (prj2 hf) dX6_span_58
noncomputable def tF_valueHere (g : St) : Option (St) :=
  (tF_factHere g).bind fun x1 =>
  if 0 ≤ x1 then
    if (g 0 32) = 0 then
      (tF_number g (9999 : Int32)).bind fun g2 =>
      (tF_writes g2 (g2 0 29)).bind fun g3 =>
      some g3
    else
      some g
  else
    (tF_wants g (1 : Int32)).bind fun g5 =>
    (tF_writes g5 x1).bind fun g6 =>
    some g6
set_option maxHeartbeats 4000000 in
theorem tC_valueHere {l : Launch} {D : va_G} {A : Nat → Prop} {o : Nat} {ad : Nat → Nat} {dI : ClassId} {g : St} {z : St} (hf : tF_valueHere g = some z) : Ct l yX6_valueHere cX6_valueHere 2 none 5 111 D vwCl [(dI, .int)] A (tW o ad dI) [.ref o] g (QV D vwCl A (tW o ad dI) z) := by
  unfold tF_valueHere at hf
  refine ct_intro (own := RX6) (lv0 := [(0, .ref o)]) (by decide) rfl (Nat.le_of_ble_eq_true rfl) rfl ?_
  intro p e s m args below meth c X hr
  refine tw_aload_n X dX6_valueHere_0 rfl 0 rfl ?_
  obtain ⟨x1, hx1, hf⟩ := bnd hf
  refine tw_callVi (As := []) (st := []) X (tC_factHere hx1) tG_factHere tI_factHere ⟨Nat.le_of_ble_eq_true rfl, Nat.le_of_ble_eq_true rfl⟩ ⟨Nat.zero_le _, Nat.zero_le _⟩ 0 rfl rfl rfl rfl (Nat.le_of_ble_eq_true rfl) dX6_valueHere_1 ?_
  refine tw_istore_n (lv' := [(1, .int x1), (0, .ref o)]) X dX6_valueHere_4 rfl (by decide) rfl ?_
  refine tw_iload_n X dX6_valueHere_5 rfl 0 rfl ?_
  refine tw_if_ge (tgt := 22) X dX6_valueHere_6 rfl hf (fun q7 hf => ?_) (fun q7 hf => ?_)
  · clear q7
    refine tw_aload_n X dX6_valueHere_22 rfl 1 rfl ?_
    refine tg_isWrong X  dX6_valueHere_23 ?_
    refine tw_if_ne (tgt := 44) X dX6_valueHere_26 rfl hf (fun q4 hf => ?_) (fun q4 hf => ?_)
    · clear q4
      refine tw_aload_n X dX6_valueHere_29 rfl 1 rfl ?_
      refine tw_sipush (v := 9999) X dX6_valueHere_30 rfl ?_
      obtain ⟨g2, hg2, hf⟩ := bnd hf
      refine tw_callVv (As := [.int (9999 : Int32)]) (st := []) X (tC_number hg2) tG_number tI_number ⟨Nat.le_of_ble_eq_true rfl, Nat.le_of_ble_eq_true rfl⟩ ⟨Nat.zero_le _, Nat.zero_le _⟩ 0 rfl rfl rfl rfl (Nat.le_of_ble_eq_true rfl) dX6_valueHere_33 ?_
      refine tw_aload_n X dX6_valueHere_36 rfl 1 rfl ?_
      refine tw_aload_n X dX6_valueHere_37 rfl 1 rfl ?_
      refine tg_value X  dX6_valueHere_38 ?_
      obtain ⟨g3, hg3, hf⟩ := bnd hf
      refine tw_callVv (As := [.int (g2 0 29)]) (st := []) X (tC_writes hg3) tG_writes tI_writes ⟨Nat.le_of_ble_eq_true rfl, Nat.le_of_ble_eq_true rfl⟩ ⟨Nat.zero_le _, Nat.zero_le _⟩ 0 rfl rfl rfl rfl (Nat.le_of_ble_eq_true rfl) dX6_valueHere_41 ?_
      exact tw_vret X hr (Option.some.inj hf) dX6_valueHere_44
    · clear q4
      exact tw_vret X hr (Option.some.inj hf) dX6_valueHere_44
  · clear q7
    refine tw_aload_n X dX6_valueHere_9 rfl 1 rfl ?_
    refine tw_iconst (v := 1) X dX6_valueHere_10 rfl ?_
    obtain ⟨g5, hg5, hf⟩ := bnd hf
    refine tw_callVv (As := [.int (1 : Int32)]) (st := []) X (tC_wants hg5) tG_wants tI_wants ⟨Nat.le_of_ble_eq_true rfl, Nat.le_of_ble_eq_true rfl⟩ ⟨Nat.zero_le _, Nat.zero_le _⟩ 0 rfl rfl rfl rfl (Nat.le_of_ble_eq_true rfl) dX6_valueHere_11 ?_
    refine tw_aload_n X dX6_valueHere_14 rfl 1 rfl ?_
    refine tw_iload_n X dX6_valueHere_15 rfl 0 rfl ?_
    obtain ⟨g6, hg6, hf⟩ := bnd hf
    refine tw_callVv (As := [.int x1]) (st := []) X (tC_writes hg6) tG_writes tI_writes ⟨Nat.le_of_ble_eq_true rfl, Nat.le_of_ble_eq_true rfl⟩ ⟨Nat.zero_le _, Nat.zero_le _⟩ 0 rfl rfl rfl rfl (Nat.le_of_ble_eq_true rfl) dX6_valueHere_16 ?_
    refine tw_goto (tgt := 44) X dX6_valueHere_19 rfl ?_
    exact tw_vret X hr (Option.some.inj hf) dX6_valueHere_44
noncomputable def tF_act (g : St) (a1 : Int32) (a2 : Int32) (a3 : Int32) : Option (Int32 × St) :=
  (pf g 0 40 (0 : Int32)).bind fun g1 =>
  (pf g1 0 44 (0 : Int32)).bind fun g2 =>
  (tF_onShelf g2 a1).bind fun x3 =>
  (pf g2 0 41 x3).bind fun g4 =>
  if (g4 0 41) < 0 then
    some ((0 : Int32), g4)
  else
    if (tF_in (a2).toInt64 (0 : Int64) (3 : Int64)) = 0 then
      some ((0 : Int32), g4)
    else
      (tF_its g4 (g4 0 41) (2 : Int32)).bind fun x6 =>
      (pf g4 0 42 x6).bind fun g7 =>
      (tF_its g7 (g7 0 41) (0 : Int32)).bind fun x8 =>
      (pf g7 0 43 x8).bind fun g9 =>
      Option.bind (α := St × Int32) (β := Int32 × St)
        (if a2 = 0 then
          (tF_gives g9 a3).bind (un2 fun y13a y13b =>
          some (y13b, y13a))
        else
          if a2 = (1 : Int32) then
            (tF_takes g9 a3).bind (un2 fun y14a y14b =>
            some (y14b, y14a))
          else
            if a2 = (2 : Int32) then
              (tF_halves g9 a3).bind (un2 fun y15a y15b =>
              some (y15b, y15a))
            else
              (tF_owes g9 a3).bind (un2 fun y16a y16b =>
              some (y16b, y16a)))
        (un2 fun j10a j10b => if (j10a 0 44) = 0 then
          some (j10b, j10a)
        else
          some ((-15 : Int32), j10a))
set_option maxHeartbeats 4000000 in
theorem tC_act {l : Launch} {D : va_G} {A : Nat → Prop} {o : Nat} {ad : Nat → Nat} {dI : ClassId} {g : St} {a1 : Int32} {a2 : Int32} {a3 : Int32} {z : Int32 × St} (hf : tF_act g a1 a2 a3 = some z) : Ct l yX6_act cX6_act 5 (some .int) 4 88 D vwCl [(dI, .int)] A (tW o ad dI) [.ref o, .int a1, .int a2, .int a3] g (QI D vwCl A (tW o ad dI) z.1 z.2) := by
  unfold tF_act at hf
  refine ct_intro (own := RX6) (lv0 := [(0, .ref o), (1, .int a1), (2, .int a2), (3, .int a3)]) (by decide) rfl (Nat.le_of_ble_eq_true rfl) rfl ?_
  intro p e s m args below meth c X hr
  refine tw_aload_n X dX6_act_0 rfl 0 rfl ?_
  refine tw_iconst (v := 0) X dX6_act_1 rfl ?_
  obtain ⟨g1, hg1, hf⟩ := bnd hf
  refine tp_bodies X hg1 dX6_act_2 ?_
  refine tw_aload_n X dX6_act_5 rfl 0 rfl ?_
  refine tw_iconst (v := 0) X dX6_act_6 rfl ?_
  obtain ⟨g2, hg2, hf⟩ := bnd hf
  refine tp_isParted X (Or.inl rfl) hg2 dX6_act_7 ?_
  refine tw_aload_n X dX6_act_10 rfl 0 rfl ?_
  refine tw_aload_n X dX6_act_11 rfl 0 rfl ?_
  refine tw_iload_n X dX6_act_12 rfl 1 rfl ?_
  obtain ⟨x3, hx3, hf⟩ := bnd hf
  refine tw_callVi (As := [.int a1]) (st := [.ref o]) X (tC_onShelf hx3) tG_onShelf tI_onShelf ⟨Nat.le_of_ble_eq_true rfl, Nat.le_of_ble_eq_true rfl⟩ ⟨Nat.zero_le _, Nat.zero_le _⟩ 0 rfl rfl rfl rfl (Nat.le_of_ble_eq_true rfl) dX6_act_13 ?_
  obtain ⟨g4, hg4, hf⟩ := bnd hf
  refine tp_acting X hg4 dX6_act_16 ?_
  refine tw_aload_n X dX6_act_19 rfl 0 rfl ?_
  refine tg_acting X  dX6_act_20 ?_
  refine tw_if_lt (tgt := 38) X dX6_act_23 rfl hf (fun q22 hf => ?_) (fun q22 hf => ?_)
  · clear q22
    refine tw_iconst (v := 0) X dX6_act_38 rfl ?_
    exact tw_iret X hr (prj1 hf) (prj2 hf) dX6_act_39
  · clear q22
    refine tw_iload_n X dX6_act_26 rfl 2 rfl ?_
    refine tw_i2l X dX6_act_27 ?_
    refine tw_lconst (v := 0) X dX6_act_28 rfl ?_
    refine tw_ldc2 (v := 3) X q2108 dX6_act_29 ?_
    refine tw_callSz (As := [.long (a2).toInt64, .long (0 : Int64), .long (3 : Int64)]) (st := []) X (tC_in (g := g4) (a2).toInt64 (0 : Int64) (3 : Int64)) tG_in tI_in ⟨Nat.le_of_ble_eq_true rfl, Nat.le_of_ble_eq_true rfl⟩ ⟨Nat.zero_le _, Nat.zero_le _⟩ rfl rfl (Nat.le_of_ble_eq_true rfl) dX6_act_32 ?_
    intro hb5
    refine tw_if_ne (tgt := 40) X dX6_act_35 rfl hf (fun q21 hf => ?_) (fun q21 hf => ?_)
    · clear q21
      refine tw_iconst (v := 0) X dX6_act_38 rfl ?_
      exact tw_iret X hr (prj1 hf) (prj2 hf) dX6_act_39
    · clear q21
      refine tw_aload_n X dX6_act_40 rfl 0 rfl ?_
      refine tw_aload_n X dX6_act_41 rfl 0 rfl ?_
      refine tw_aload_n X dX6_act_42 rfl 0 rfl ?_
      refine tg_acting X  dX6_act_43 ?_
      refine tw_iconst (v := 2) X dX6_act_46 rfl ?_
      obtain ⟨x6, hx6, hf⟩ := bnd hf
      refine tw_callVi (As := [.int (g4 0 41), .int (2 : Int32)]) (st := [.ref o]) X (tC_its hx6) tG_its tI_its ⟨Nat.le_of_ble_eq_true rfl, Nat.le_of_ble_eq_true rfl⟩ ⟨Nat.zero_le _, Nat.zero_le _⟩ 0 rfl rfl rfl rfl (Nat.le_of_ble_eq_true rfl) dX6_act_47 ?_
      obtain ⟨g7, hg7, hf⟩ := bnd hf
      refine tp_about X hg7 dX6_act_50 ?_
      refine tw_aload_n X dX6_act_53 rfl 0 rfl ?_
      refine tw_aload_n X dX6_act_54 rfl 0 rfl ?_
      refine tw_aload_n X dX6_act_55 rfl 0 rfl ?_
      refine tg_acting X  dX6_act_56 ?_
      refine tw_iconst (v := 0) X dX6_act_59 rfl ?_
      obtain ⟨x8, hx8, hf⟩ := bnd hf
      refine tw_callVi (As := [.int (g7 0 41), .int (0 : Int32)]) (st := [.ref o]) X (tC_its hx8) tG_its tI_its ⟨Nat.le_of_ble_eq_true rfl, Nat.le_of_ble_eq_true rfl⟩ ⟨Nat.zero_le _, Nat.zero_le _⟩ 0 rfl rfl rfl rfl (Nat.le_of_ble_eq_true rfl) dX6_act_60 ?_
      obtain ⟨g9, hg9, hf⟩ := bnd hf
      refine tp_kindActing X hg9 dX6_act_63 ?_
      refine tw_iload_n X dX6_act_66 rfl 2 rfl ?_
      refine bj_walk (P := un2 fun j10a j10b => TW p l e (rom 4 88) s m args below meth c (MQ below (QI D vwCl A (tW o ad dI) z.1 z.2) args s 0 0 A) D vwCl A (tW o ad dI) 5 0 0 j10a 109 [(0, .ref o)] [.int j10b]) hf ?_ ?_
      · rintro ⟨j10a, j10b⟩ hf
        dsimp only [un2] at hf ⊢
        refine tw_istore (lv' := [(4, .int j10b), (0, .ref o)]) X dX6_act_109 (by decide) rfl ?_
        refine tw_aload_n X dX6_act_111 rfl 1 rfl ?_
        refine tg_isParted X  dX6_act_112 ?_
        refine tw_if_eq (tgt := 123) X dX6_act_115 rfl hf (fun q12 hf => ?_) (fun q12 hf => ?_)
        · clear q12
          refine tw_iload X dX6_act_123 0 rfl ?_
          exact tw_iret X hr (prj1 hf) (prj2 hf) dX6_act_125
        · clear q12
          refine tw_bipush (v := -15) X dX6_act_118 rfl ?_
          refine tw_goto (tgt := 125) X dX6_act_120 rfl ?_
          exact tw_iret X hr (prj1 hf) (prj2 hf) dX6_act_125
      · intro zz20 hf hk11
        refine tw_if_ne (tgt := 78) X dX6_act_67 rfl hf (fun q19 hf => ?_) (fun q19 hf => ?_)
        · clear q19
          refine tw_aload_n X dX6_act_70 rfl 0 rfl ?_
          refine tw_iload_n X dX6_act_71 rfl 3 rfl ?_
          obtain ⟨⟨y13a, y13b⟩, hy13, hf⟩ := bnd hf
          dsimp only [un2] at hf
          refine tw_callVi (As := [.int a3]) (st := []) X (tC_gives hy13) tG_gives tI_gives ⟨Nat.le_of_ble_eq_true rfl, Nat.le_of_ble_eq_true rfl⟩ ⟨Nat.zero_le _, Nat.zero_le _⟩ 0 rfl rfl rfl rfl (Nat.le_of_ble_eq_true rfl) dX6_act_72 ?_
          refine tw_goto (tgt := 109) X dX6_act_75 rfl ?_
          refine tw_sub [0] (lv' := [(0, .ref o)]) rfl ?_
          have hL := hk11 _ hf
          exact hL
        · clear q19
          refine tw_iload_n X dX6_act_78 rfl 2 rfl ?_
          refine tw_iconst (v := 1) X dX6_act_79 rfl ?_
          refine tw_icmp_ne (tgt := 91) X dX6_act_80 rfl hf (fun q18 hf => ?_) (fun q18 hf => ?_)
          · clear q18
            refine tw_aload_n X dX6_act_83 rfl 0 rfl ?_
            refine tw_iload_n X dX6_act_84 rfl 3 rfl ?_
            obtain ⟨⟨y14a, y14b⟩, hy14, hf⟩ := bnd hf
            dsimp only [un2] at hf
            refine tw_callVi (As := [.int a3]) (st := []) X (tC_takes hy14) tG_takes tI_takes ⟨Nat.le_of_ble_eq_true rfl, Nat.le_of_ble_eq_true rfl⟩ ⟨Nat.zero_le _, Nat.zero_le _⟩ 0 rfl rfl rfl rfl (Nat.le_of_ble_eq_true rfl) dX6_act_85 ?_
            refine tw_goto (tgt := 109) X dX6_act_88 rfl ?_
            refine tw_sub [0] (lv' := [(0, .ref o)]) rfl ?_
            have hL := hk11 _ hf
            exact hL
          · clear q18
            refine tw_iload_n X dX6_act_91 rfl 2 rfl ?_
            refine tw_iconst (v := 2) X dX6_act_92 rfl ?_
            refine tw_icmp_ne (tgt := 104) X dX6_act_93 rfl hf (fun q17 hf => ?_) (fun q17 hf => ?_)
            · clear q17
              refine tw_aload_n X dX6_act_96 rfl 0 rfl ?_
              refine tw_iload_n X dX6_act_97 rfl 3 rfl ?_
              obtain ⟨⟨y15a, y15b⟩, hy15, hf⟩ := bnd hf
              dsimp only [un2] at hf
              refine tw_callVi (As := [.int a3]) (st := []) X (tC_halves hy15) tG_halves tI_halves ⟨Nat.le_of_ble_eq_true rfl, Nat.le_of_ble_eq_true rfl⟩ ⟨Nat.zero_le _, Nat.zero_le _⟩ 0 rfl rfl rfl rfl (Nat.le_of_ble_eq_true rfl) dX6_act_98 ?_
              refine tw_goto (tgt := 109) X dX6_act_101 rfl ?_
              refine tw_sub [0] (lv' := [(0, .ref o)]) rfl ?_
              have hL := hk11 _ hf
              exact hL
            · clear q17
              refine tw_aload_n X dX6_act_104 rfl 0 rfl ?_
              refine tw_iload_n X dX6_act_105 rfl 3 rfl ?_
              obtain ⟨⟨y16a, y16b⟩, hy16, hf⟩ := bnd hf
              dsimp only [un2] at hf
              refine tw_callVi (As := [.int a3]) (st := []) X (tC_owes hy16) tG_owes tI_owes ⟨Nat.le_of_ble_eq_true rfl, Nat.le_of_ble_eq_true rfl⟩ ⟨Nat.zero_le _, Nat.zero_le _⟩ 0 rfl rfl rfl rfl (Nat.le_of_ble_eq_true rfl) dX6_act_106 ?_
              refine tw_sub [0] (lv' := [(0, .ref o)]) rfl ?_
              have hL := hk11 _ hf
              exact hL
noncomputable def tF_isSo (g : St) (a1 : Int32) (a2 : Int32) (a3 : Int32) : Option (Int32 × St) :=
  Option.bind (α := St × Int32) (β := Int32 × St)
    (iter (L := St × Int32 × Int32) (T := St × Int32) (un3 fun s6a s6b s6c => 
      if a2 ≤ s6c then
        some (.inr (s6a, s6b))
      else
        (rd (s6a 1) 340 ((138 : Int32) + s6c)).bind fun x9 =>
        if x9 ≤ (-10 : Int32) then
          if x9 = (-20 : Int32) then
            (rd (s6a 6) 200 (s6b - (1 : Int32))).bind fun x10 =>
            (wr s6a 6 200 (s6b - (1 : Int32)) ((1 : Int32) - x10)).bind fun g11 =>
            some (.inl (g11, s6b, (s6c + (1 : Int32))))
          else
            (rd (s6a 6) 200 ((s6b + (-1 : Int32)) - (1 : Int32))).bind fun x12 =>
            (rd (s6a 6) 200 (s6b + (-1 : Int32))).bind fun x13 =>
            if (tF_isHolding x9 x12 x13) = 0 then
              (wr s6a 6 200 ((s6b + (-1 : Int32)) - (1 : Int32)) (0 : Int32)).bind fun g15 =>
              some (.inl (g15, (s6b + (-1 : Int32)), (s6c + (1 : Int32))))
            else
              (wr s6a 6 200 ((s6b + (-1 : Int32)) - (1 : Int32)) (1 : Int32)).bind fun g16 =>
              some (.inl (g16, (s6b + (-1 : Int32)), (s6c + (1 : Int32))))
        else
          (tF_fact s6a x9 a3).bind fun x19 =>
          (wr s6a 6 200 s6b x19).bind fun g20 =>
          some (.inl (g20, (s6b + (1 : Int32)), (s6c + (1 : Int32))))) (g, (0 : Int32), a1))
    (un2 fun j1a j1b => if j1b = 0 then
      some ((1 : Int32), j1a)
    else
      (rd (j1a 6) 200 (0 : Int32)).bind fun x3 =>
      if x3 = (1 : Int32) then
        some ((1 : Int32), j1a)
      else
        some ((0 : Int32), j1a))
set_option maxHeartbeats 4000000 in
theorem tC_isSo {l : Launch} {D : va_G} {A : Nat → Prop} {o : Nat} {ad : Nat → Nat} {dI : ClassId} {g : St} {a1 : Int32} {a2 : Int32} {a3 : Int32} {z : Int32 × St} (hf : tF_isSo g a1 a2 a3 = some z) : Ct l yX6_isSo cX6_isSo 7 (some .boolean) 5 108 D vwCl [(dI, .int)] A (tW o ad dI) [.ref o, .int a1, .int a2, .int a3] g (QZ D vwCl A (tW o ad dI) z.1 z.2) := by
  unfold tF_isSo at hf
  refine ct_intro (own := RX6) (lv0 := [(0, .ref o), (1, .int a1), (2, .int a2), (3, .int a3)]) (by decide) rfl (Nat.le_of_ble_eq_true rfl) rfl ?_
  intro p e s m args below meth c X hr
  refine tw_iconst (v := 0) X dX6_isSo_0 rfl ?_
  refine tw_istore (lv' := [(4, .int (0 : Int32)), (0, .ref o), (1, .int a1), (2, .int a2), (3, .int a3)]) X dX6_isSo_1 (by decide) rfl ?_
  refine tw_iload_n X dX6_isSo_3 rfl 2 rfl ?_
  refine tw_istore (lv' := [(5, .int a1), (4, .int (0 : Int32)), (0, .ref o), (1, .int a1), (2, .int a2), (3, .int a3)]) X dX6_isSo_4 (by decide) rfl ?_
  refine bj_walk (P := un2 fun j1a j1b => TW p l e (rom 5 108) s m args below meth c (MQ below (QZ D vwCl A (tW o ad dI) z.1 z.2) args s 0 0 A) D vwCl A (tW o ad dI) 7 0 0 j1a 129 [(0, .ref o), (4, .int j1b)] []) hf ?_ ?_
  · rintro ⟨j1a, j1b⟩ hf
    dsimp only [un2] at hf ⊢
    refine tw_iload X dX6_isSo_129 1 rfl ?_
    refine tw_if_eq (tgt := 144) X dX6_isSo_131 rfl hf (fun q5 hf => ?_) (fun q5 hf => ?_)
    · clear q5
      refine tw_iconst (v := 1) X dX6_isSo_144 rfl ?_
      refine tw_goto (tgt := 149) X dX6_isSo_145 rfl ?_
      exact tw_zret X hr (Or.inr rfl) (prj1 hf) (prj2 hf) dX6_isSo_149
    · clear q5
      refine tw_aload_n X dX6_isSo_134 rfl 0 rfl ?_
      refine tg_stack X  dX6_isSo_135 ?_
      refine tw_iconst (v := 0) X dX6_isSo_138 rfl ?_
      obtain ⟨x3, hx3, hf⟩ := bnd hf
      refine ta_stack X hx3 dX6_isSo_139 ?_
      refine tw_iconst (v := 1) X dX6_isSo_140 rfl ?_
      refine tw_icmp_ne (tgt := 148) X dX6_isSo_141 rfl hf (fun q4 hf => ?_) (fun q4 hf => ?_)
      · clear q4
        refine tw_iconst (v := 1) X dX6_isSo_144 rfl ?_
        refine tw_goto (tgt := 149) X dX6_isSo_145 rfl ?_
        exact tw_zret X hr (Or.inr rfl) (prj1 hf) (prj2 hf) dX6_isSo_149
      · clear q4
        refine tw_iconst (v := 0) X dX6_isSo_148 rfl ?_
        exact tw_zret X hr (Or.inl rfl) (prj1 hf) (prj2 hf) dX6_isSo_149
  · intro zz24 hf hk2
    refine tw_sub [2, 4, 5, 1, 0] (lv' := [(0, .ref o), (2, .int a2), (3, .int a3), (4, .int (0 : Int32)), (5, .int a1)]) rfl ?_
    refine it_walk (P := un3 fun s6a s6b s6c => TW p l e (rom 5 108) s m args below meth c (MQ below (QZ D vwCl A (tW o ad dI) z.1 z.2) args s 0 0 A) D vwCl A (tW o ad dI) 7 0 0 s6a 6 [(0, .ref o), (2, .int a2), (3, .int a3), (4, .int s6b), (5, .int s6c)] []) hf ?_
    rintro ⟨s6a, s6b, s6c⟩ zz23 hf hl7
    dsimp only [un3] at hf ⊢
    refine tw_iload X dX6_isSo_6 4 rfl ?_
    refine tw_iload_n X dX6_isSo_8 rfl 1 rfl ?_
    refine tw_icmp_ge (tgt := 129) X dX6_isSo_9 rfl hf (fun q22 hf => ?_) (fun q22 hf => ?_)
    · clear q22
      have hf8 := leafR hf hl7
      refine tw_sub [0, 3] (lv' := [(0, .ref o), (4, .int s6b)]) rfl ?_
      have hL := hk2 _ hf8
      exact hL
    · clear q22
      refine tw_aload_n X dX6_isSo_12 rfl 0 rfl ?_
      refine tg_s X  dX6_isSo_13 ?_
      refine tw_sipush (v := 138) X dX6_isSo_16 rfl ?_
      refine tw_iload X dX6_isSo_19 4 rfl ?_
      refine tw_iadd X dX6_isSo_21 ?_
      obtain ⟨x9, hx9, hf⟩ := bnd hf
      refine ta_s X hx9 dX6_isSo_22 ?_
      refine tw_istore (lv' := [(6, .int x9), (0, .ref o), (2, .int a2), (3, .int a3), (4, .int s6b), (5, .int s6c)]) X dX6_isSo_23 (by decide) rfl ?_
      refine tw_iload X dX6_isSo_25 0 rfl ?_
      refine tw_bipush (v := -10) X dX6_isSo_27 rfl ?_
      refine tw_icmp_le (tgt := 52) X dX6_isSo_29 rfl hf (fun q21 hf => ?_) (fun q21 hf => ?_)
      · clear q21
        refine tw_iload X dX6_isSo_52 0 rfl ?_
        refine tw_bipush (v := -20) X dX6_isSo_54 rfl ?_
        refine tw_icmp_ne (tgt := 82) X dX6_isSo_56 rfl hf (fun q18 hf => ?_) (fun q18 hf => ?_)
        · clear q18
          refine tw_aload_n X dX6_isSo_59 rfl 1 rfl ?_
          refine tg_stack X  dX6_isSo_60 ?_
          refine tw_iload X dX6_isSo_63 4 rfl ?_
          refine tw_iconst (v := 1) X dX6_isSo_65 rfl ?_
          refine tw_isub X dX6_isSo_66 ?_
          refine tw_iconst (v := 1) X dX6_isSo_67 rfl ?_
          refine tw_aload_n X dX6_isSo_68 rfl 1 rfl ?_
          refine tg_stack X  dX6_isSo_69 ?_
          refine tw_iload X dX6_isSo_72 4 rfl ?_
          refine tw_iconst (v := 1) X dX6_isSo_74 rfl ?_
          refine tw_isub X dX6_isSo_75 ?_
          obtain ⟨x10, hx10, hf⟩ := bnd hf
          refine ta_stack X hx10 dX6_isSo_76 ?_
          refine tw_isub X dX6_isSo_77 ?_
          obtain ⟨g11, hg11, hf⟩ := bnd hf
          refine ts_stack X hg11 dX6_isSo_78 ?_
          refine tw_goto (tgt := 123) X dX6_isSo_79 rfl ?_
          refine tw_iinc (q := 5) (v := (s6c + (1 : Int32))) (lv' := [(5, .int (s6c + (1 : Int32))), (6, .int x9), (0, .ref o), (2, .int a2), (3, .int a3), (4, .int s6b)]) X dX6_isSo_123 rfl rfl (by decide) rfl ?_
          refine tw_goto (tgt := 6) X dX6_isSo_126 rfl ?_
          refine tw_sub [2, 3, 4, 5, 0] (lv' := [(0, .ref o), (2, .int a2), (3, .int a3), (4, .int s6b), (5, .int (s6c + (1 : Int32)))]) rfl ?_
          have hL := leafL hf hl7
          exact hL
        · clear q18
          refine tw_iinc (q := 4) (v := (s6b + (-1 : Int32))) (lv' := [(4, .int (s6b + (-1 : Int32))), (6, .int x9), (0, .ref o), (2, .int a2), (3, .int a3), (5, .int s6c)]) X dX6_isSo_82 rfl rfl (by decide) rfl ?_
          refine tw_aload_n X dX6_isSo_85 rfl 2 rfl ?_
          refine tg_stack X  dX6_isSo_86 ?_
          refine tw_iload X dX6_isSo_89 0 rfl ?_
          refine tw_iconst (v := 1) X dX6_isSo_91 rfl ?_
          refine tw_isub X dX6_isSo_92 ?_
          refine tw_iload X dX6_isSo_93 1 rfl ?_
          refine tw_aload_n X dX6_isSo_95 rfl 2 rfl ?_
          refine tg_stack X  dX6_isSo_96 ?_
          refine tw_iload X dX6_isSo_99 0 rfl ?_
          refine tw_iconst (v := 1) X dX6_isSo_101 rfl ?_
          refine tw_isub X dX6_isSo_102 ?_
          obtain ⟨x12, hx12, hf⟩ := bnd hf
          refine ta_stack X hx12 dX6_isSo_103 ?_
          refine tw_aload_n X dX6_isSo_104 rfl 2 rfl ?_
          refine tg_stack X  dX6_isSo_105 ?_
          refine tw_iload X dX6_isSo_108 0 rfl ?_
          obtain ⟨x13, hx13, hf⟩ := bnd hf
          refine ta_stack X hx13 dX6_isSo_110 ?_
          refine tw_callSz (As := [.int x9, .int x12, .int x13]) (st := [.int ((s6b + (-1 : Int32)) - (1 : Int32)), .ref (ad 5)]) X (tC_isHolding (g := s6a) x9 x12 x13) tG_isHolding tI_isHolding ⟨Nat.le_of_ble_eq_true rfl, Nat.le_of_ble_eq_true rfl⟩ ⟨Nat.zero_le _, Nat.zero_le _⟩ rfl rfl (Nat.le_of_ble_eq_true rfl) dX6_isSo_111 ?_
          intro hb14
          refine tw_if_eq (tgt := 121) X dX6_isSo_114 rfl hf (fun q17 hf => ?_) (fun q17 hf => ?_)
          · clear q17
            refine tw_iconst (v := 0) X dX6_isSo_121 rfl ?_
            obtain ⟨g15, hg15, hf⟩ := bnd hf
            refine ts_stack X hg15 dX6_isSo_122 ?_
            refine tw_iinc (q := 5) (v := (s6c + (1 : Int32))) (lv' := [(5, .int (s6c + (1 : Int32))), (4, .int (s6b + (-1 : Int32))), (6, .int x9), (0, .ref o), (2, .int a2), (3, .int a3)]) X dX6_isSo_123 rfl rfl (by decide) rfl ?_
            refine tw_goto (tgt := 6) X dX6_isSo_126 rfl ?_
            refine tw_sub [3, 4, 5, 1, 0] (lv' := [(0, .ref o), (2, .int a2), (3, .int a3), (4, .int (s6b + (-1 : Int32))), (5, .int (s6c + (1 : Int32)))]) rfl ?_
            have hL := leafL hf hl7
            exact hL
          · clear q17
            refine tw_iconst (v := 1) X dX6_isSo_117 rfl ?_
            refine tw_goto (tgt := 122) X dX6_isSo_118 rfl ?_
            obtain ⟨g16, hg16, hf⟩ := bnd hf
            refine ts_stack X hg16 dX6_isSo_122 ?_
            refine tw_iinc (q := 5) (v := (s6c + (1 : Int32))) (lv' := [(5, .int (s6c + (1 : Int32))), (4, .int (s6b + (-1 : Int32))), (6, .int x9), (0, .ref o), (2, .int a2), (3, .int a3)]) X dX6_isSo_123 rfl rfl (by decide) rfl ?_
            refine tw_goto (tgt := 6) X dX6_isSo_126 rfl ?_
            refine tw_sub [3, 4, 5, 1, 0] (lv' := [(0, .ref o), (2, .int a2), (3, .int a3), (4, .int (s6b + (-1 : Int32))), (5, .int (s6c + (1 : Int32)))]) rfl ?_
            have hL := leafL hf hl7
            exact hL
      · clear q21
        refine tw_aload_n X dX6_isSo_32 rfl 1 rfl ?_
        refine tg_stack X  dX6_isSo_33 ?_
        refine tw_iload X dX6_isSo_36 4 rfl ?_
        refine tw_aload_n X dX6_isSo_38 rfl 1 rfl ?_
        refine tw_iload X dX6_isSo_39 0 rfl ?_
        refine tw_iload_n X dX6_isSo_41 rfl 3 rfl ?_
        obtain ⟨x19, hx19, hf⟩ := bnd hf
        refine tw_callVi (As := [.int x9, .int a3]) (st := [.int s6b, .ref (ad 5)]) X (tC_fact hx19) tG_fact tI_fact ⟨Nat.le_of_ble_eq_true rfl, Nat.le_of_ble_eq_true rfl⟩ ⟨Nat.zero_le _, Nat.zero_le _⟩ 0 rfl rfl rfl rfl (Nat.le_of_ble_eq_true rfl) dX6_isSo_42 ?_
        obtain ⟨g20, hg20, hf⟩ := bnd hf
        refine ts_stack X hg20 dX6_isSo_45 ?_
        refine tw_iinc (q := 4) (v := (s6b + (1 : Int32))) (lv' := [(4, .int (s6b + (1 : Int32))), (6, .int x9), (0, .ref o), (2, .int a2), (3, .int a3), (5, .int s6c)]) X dX6_isSo_46 rfl rfl (by decide) rfl ?_
        refine tw_goto (tgt := 123) X dX6_isSo_49 rfl ?_
        refine tw_iinc (q := 5) (v := (s6c + (1 : Int32))) (lv' := [(5, .int (s6c + (1 : Int32))), (4, .int (s6b + (1 : Int32))), (6, .int x9), (0, .ref o), (2, .int a2), (3, .int a3)]) X dX6_isSo_123 rfl rfl (by decide) rfl ?_
        refine tw_goto (tgt := 6) X dX6_isSo_126 rfl ?_
        refine tw_sub [3, 4, 5, 1, 0] (lv' := [(0, .ref o), (2, .int a2), (3, .int a3), (4, .int (s6b + (1 : Int32))), (5, .int (s6c + (1 : Int32)))]) rfl ?_
        have hL := leafL hf hl7
        exact hL
noncomputable def tF_rings (g : St) (a1 : Int32) : Option (Int32 × St) :=
  if (tF_in (a1).toInt64 (2 : Int64) (6 : Int64)) = 0 then
    some ((-1 : Int32), g)
  else
    (tF_findRings g a1).bind fun g2 =>
    some ((g2 0 18), g2)
set_option maxHeartbeats 4000000 in
theorem tC_rings {l : Launch} {D : va_G} {A : Nat → Prop} {o : Nat} {ad : Nat → Nat} {dI : ClassId} {g : St} {a1 : Int32} {z : Int32 × St} (hf : tF_rings g a1 = some z) : Ct l yX6_rings cX6_rings 2 (some .int) 14 334 D vwCl [(dI, .int)] A (tW o ad dI) [.ref o, .int a1] g (QI D vwCl A (tW o ad dI) z.1 z.2) := by
  unfold tF_rings at hf
  refine ct_intro (own := RX6) (lv0 := [(0, .ref o), (1, .int a1)]) (by decide) rfl (Nat.le_of_ble_eq_true rfl) rfl ?_
  intro p e s m args below meth c X hr
  refine tw_iload_n X dX6_rings_0 rfl 1 rfl ?_
  refine tw_i2l X dX6_rings_1 ?_
  refine tw_ldc2 (v := 2) X q1879 dX6_rings_2 ?_
  refine tw_ldc2 (v := 6) X q1677 dX6_rings_5 ?_
  refine tw_callSz (As := [.long (a1).toInt64, .long (2 : Int64), .long (6 : Int64)]) (st := []) X (tC_in (g := g) (a1).toInt64 (2 : Int64) (6 : Int64)) tG_in tI_in ⟨Nat.le_of_ble_eq_true rfl, Nat.le_of_ble_eq_true rfl⟩ ⟨Nat.zero_le _, Nat.zero_le _⟩ rfl rfl (Nat.le_of_ble_eq_true rfl) dX6_rings_8 ?_
  intro hb1
  refine tw_if_ne (tgt := 16) X dX6_rings_11 rfl hf (fun q3 hf => ?_) (fun q3 hf => ?_)
  · clear q3
    refine tw_iconst (v := -1) X dX6_rings_14 rfl ?_
    exact tw_iret X hr (prj1 hf) (prj2 hf) dX6_rings_15
  · clear q3
    refine tw_aload_n X dX6_rings_16 rfl 0 rfl ?_
    refine tw_iload_n X dX6_rings_17 rfl 1 rfl ?_
    obtain ⟨g2, hg2, hf⟩ := bnd hf
    refine tw_callVv (As := [.int a1]) (st := []) X (tC_findRings hg2) tG_findRings tI_findRings ⟨Nat.le_of_ble_eq_true rfl, Nat.le_of_ble_eq_true rfl⟩ ⟨Nat.zero_le _, Nat.zero_le _⟩ 0 rfl rfl rfl rfl (Nat.le_of_ble_eq_true rfl) dX6_rings_18 ?_
    refine tw_aload_n X dX6_rings_21 rfl 0 rfl ?_
    refine tg_ringMany X  dX6_rings_22 ?_
    exact tw_iret X hr (prj1 hf) (prj2 hf) dX6_rings_25
noncomputable def tF_comparison (g : St) : Option (St) :=
  (tF_valueHere g).bind fun g1 =>
  Option.bind (α := Int32) (β := St)
    (if (g1 0 32) = 0 then
      (tF_byteAt g1 (g1 0 27)).bind fun x18 =>
      some x18
    else
      some (-1 : Int32))
    (fun j2 => Option.bind (α := Int32) (β := St)
      (if j2 = (60 : Int32) then
        some (1 : Int32)
      else
        if j2 = (61 : Int32) then
          some (1 : Int32)
        else
          if j2 = (62 : Int32) then
            some (1 : Int32)
          else
            some (0 : Int32))
      (fun j4 => (tF_wants g1 j4).bind fun g6 =>
      (tF_valueHere g6).bind fun g7 =>
      Option.bind (α := Int32) (β := St)
        (if j2 = (60 : Int32) then
          some (-11 : Int32)
        else
          if j2 = (61 : Int32) then
            some (-12 : Int32)
          else
            some (-13 : Int32))
        (fun j8 => (tF_writes g7 j8).bind fun g10 =>
        some g10)))
set_option maxHeartbeats 4000000 in
theorem tC_comparison {l : Launch} {D : va_G} {A : Nat → Prop} {o : Nat} {ad : Nat → Nat} {dI : ClassId} {g : St} {z : St} (hf : tF_comparison g = some z) : Ct l yX6_comparison cX6_comparison 2 none 6 132 D vwCl [(dI, .int)] A (tW o ad dI) [.ref o] g (QV D vwCl A (tW o ad dI) z) := by
  unfold tF_comparison at hf
  refine ct_intro (own := RX6) (lv0 := [(0, .ref o)]) (by decide) rfl (Nat.le_of_ble_eq_true rfl) rfl ?_
  intro p e s m args below meth c X hr
  refine tw_aload_n X dX6_comparison_0 rfl 0 rfl ?_
  obtain ⟨g1, hg1, hf⟩ := bnd hf
  refine tw_callVv (As := []) (st := []) X (tC_valueHere hg1) tG_valueHere tI_valueHere ⟨Nat.le_of_ble_eq_true rfl, Nat.le_of_ble_eq_true rfl⟩ ⟨Nat.zero_le _, Nat.zero_le _⟩ 0 rfl rfl rfl rfl (Nat.le_of_ble_eq_true rfl) dX6_comparison_1 ?_
  refine tw_aload_n X dX6_comparison_4 rfl 0 rfl ?_
  refine tg_isWrong X  dX6_comparison_5 ?_
  refine bj_walk (P := fun j2 : Int32 => TW p l e (rom 6 132) s m args below meth c (MQ below (QV D vwCl A (tW o ad dI) z) args s 0 0 A) D vwCl A (tW o ad dI) 2 0 0 g1 23 [(0, .ref o)] [.int j2]) hf ?_ ?_
  · intro j2 hf
    refine tw_istore_n (lv' := [(1, .int j2), (0, .ref o)]) X dX6_comparison_23 rfl (by decide) rfl ?_
    refine tw_aload_n X dX6_comparison_24 rfl 1 rfl ?_
    refine tw_iload_n X dX6_comparison_25 rfl 0 rfl ?_
    refine tw_bipush (v := 60) X dX6_comparison_26 rfl ?_
    refine bj_walk (P := fun j4 : Int32 => TW p l e (rom 6 132) s m args below meth c (MQ below (QV D vwCl A (tW o ad dI) z) args s 0 0 A) D vwCl A (tW o ad dI) 2 0 0 g1 48 [(0, .ref o), (1, .int j2)] [.int j4, .ref o]) hf ?_ ?_
    · intro j4 hf
      obtain ⟨g6, hg6, hf⟩ := bnd hf
      refine tw_callVv (As := [.int j4]) (st := []) X (tC_wants hg6) tG_wants tI_wants ⟨Nat.le_of_ble_eq_true rfl, Nat.le_of_ble_eq_true rfl⟩ ⟨Nat.zero_le _, Nat.zero_le _⟩ 0 rfl rfl rfl rfl (Nat.le_of_ble_eq_true rfl) dX6_comparison_48 ?_
      refine tw_aload_n X dX6_comparison_51 rfl 0 rfl ?_
      obtain ⟨g7, hg7, hf⟩ := bnd hf
      refine tw_callVv (As := []) (st := []) X (tC_valueHere hg7) tG_valueHere tI_valueHere ⟨Nat.le_of_ble_eq_true rfl, Nat.le_of_ble_eq_true rfl⟩ ⟨Nat.zero_le _, Nat.zero_le _⟩ 0 rfl rfl rfl rfl (Nat.le_of_ble_eq_true rfl) dX6_comparison_52 ?_
      refine tw_aload_n X dX6_comparison_55 rfl 0 rfl ?_
      refine tw_iload_n X dX6_comparison_56 rfl 1 rfl ?_
      refine tw_bipush (v := 60) X dX6_comparison_57 rfl ?_
      refine bj_walk (P := fun j8 : Int32 => TW p l e (rom 6 132) s m args below meth c (MQ below (QV D vwCl A (tW o ad dI) z) args s 0 0 A) D vwCl A (tW o ad dI) 2 0 0 g7 80 [] [.int j8, .ref o]) hf ?_ ?_
      · intro j8 hf
        obtain ⟨g10, hg10, hf⟩ := bnd hf
        refine tw_callVv (As := [.int j8]) (st := []) X (tC_writes hg10) tG_writes tI_writes ⟨Nat.le_of_ble_eq_true rfl, Nat.le_of_ble_eq_true rfl⟩ ⟨Nat.zero_le _, Nat.zero_le _⟩ 0 rfl rfl rfl rfl (Nat.le_of_ble_eq_true rfl) dX6_comparison_80 ?_
        exact tw_vret X hr (Option.some.inj hf) dX6_comparison_83
      · intro zz13 hf hk9
        refine tw_icmp_ne (tgt := 67) X dX6_comparison_59 rfl hf (fun q12 hf => ?_) (fun q12 hf => ?_)
        · clear q12
          refine tw_bipush (v := -11) X dX6_comparison_62 rfl ?_
          refine tw_goto (tgt := 80) X dX6_comparison_64 rfl ?_
          refine tw_sub [] (lv' := []) rfl ?_
          have hL := hk9 _ hf
          exact hL
        · clear q12
          refine tw_iload_n X dX6_comparison_67 rfl 1 rfl ?_
          refine tw_bipush (v := 61) X dX6_comparison_68 rfl ?_
          refine tw_icmp_ne (tgt := 78) X dX6_comparison_70 rfl hf (fun q11 hf => ?_) (fun q11 hf => ?_)
          · clear q11
            refine tw_bipush (v := -12) X dX6_comparison_73 rfl ?_
            refine tw_goto (tgt := 80) X dX6_comparison_75 rfl ?_
            refine tw_sub [] (lv' := []) rfl ?_
            have hL := hk9 _ hf
            exact hL
          · clear q11
            refine tw_bipush (v := -13) X dX6_comparison_78 rfl ?_
            refine tw_sub [] (lv' := []) rfl ?_
            have hL := hk9 _ hf
            exact hL
    · intro zz17 hf hk5
      refine tw_icmp_eq (tgt := 43) X dX6_comparison_28 rfl hf (fun q16 hf => ?_) (fun q16 hf => ?_)
      · clear q16
        refine tw_iconst (v := 1) X dX6_comparison_43 rfl ?_
        refine tw_goto (tgt := 48) X dX6_comparison_44 rfl ?_
        refine tw_sub [1, 0] (lv' := [(0, .ref o), (1, .int j2)]) rfl ?_
        have hL := hk5 _ hf
        exact hL
      · clear q16
        refine tw_iload_n X dX6_comparison_31 rfl 0 rfl ?_
        refine tw_bipush (v := 61) X dX6_comparison_32 rfl ?_
        refine tw_icmp_eq (tgt := 43) X dX6_comparison_34 rfl hf (fun q15 hf => ?_) (fun q15 hf => ?_)
        · clear q15
          refine tw_iconst (v := 1) X dX6_comparison_43 rfl ?_
          refine tw_goto (tgt := 48) X dX6_comparison_44 rfl ?_
          refine tw_sub [1, 0] (lv' := [(0, .ref o), (1, .int j2)]) rfl ?_
          have hL := hk5 _ hf
          exact hL
        · clear q15
          refine tw_iload_n X dX6_comparison_37 rfl 0 rfl ?_
          refine tw_bipush (v := 62) X dX6_comparison_38 rfl ?_
          refine tw_icmp_ne (tgt := 47) X dX6_comparison_40 rfl hf (fun q14 hf => ?_) (fun q14 hf => ?_)
          · clear q14
            refine tw_iconst (v := 1) X dX6_comparison_43 rfl ?_
            refine tw_goto (tgt := 48) X dX6_comparison_44 rfl ?_
            refine tw_sub [1, 0] (lv' := [(0, .ref o), (1, .int j2)]) rfl ?_
            have hL := hk5 _ hf
            exact hL
          · clear q14
            refine tw_iconst (v := 0) X dX6_comparison_47 rfl ?_
            refine tw_sub [1, 0] (lv' := [(0, .ref o), (1, .int j2)]) rfl ?_
            have hL := hk5 _ hf
            exact hL
  · intro zz20 hf hk3
    refine tw_if_eq (tgt := 15) X dX6_comparison_8 rfl hf (fun q19 hf => ?_) (fun q19 hf => ?_)
    · clear q19
      refine tw_aload_n X dX6_comparison_15 rfl 0 rfl ?_
      refine tw_aload_n X dX6_comparison_16 rfl 0 rfl ?_
      refine tg_from X  dX6_comparison_17 ?_
      obtain ⟨x18, hx18, hf⟩ := bnd hf
      refine tw_callVi (As := [.int (g1 0 27)]) (st := []) X (tC_byteAt hx18) tG_byteAt tI_byteAt ⟨Nat.le_of_ble_eq_true rfl, Nat.le_of_ble_eq_true rfl⟩ ⟨Nat.zero_le _, Nat.zero_le _⟩ 0 rfl rfl rfl rfl (Nat.le_of_ble_eq_true rfl) dX6_comparison_20 ?_
      have hL := hk3 _ hf
      exact hL
    · clear q19
      refine tw_iconst (v := -1) X dX6_comparison_11 rfl ?_
      refine tw_goto (tgt := 23) X dX6_comparison_12 rfl ?_
      have hL := hk3 _ hf
      exact hL
noncomputable def tF_asked (g : St) (a1 : Int32) : Option (Int32 × St) :=
  (tF_its g a1 (0 : Int32)).bind fun x1 =>
  Option.bind (α := St × Int32) (β := Int32 × St)
    (iter (L := St × Int32 × Int32 × Int32) (T := St × Int32) (un4 fun s34a s34b s34c s34d => 
      (rd (s34a 1) 340 (1 : Int32)).bind fun x36 =>
      if x36 ≤ s34d then
        some (.inr (s34a, s34b))
      else
        if 0 ≤ s34b then
          some (.inr (s34a, s34b))
        else
          (rd (s34a 1) 340 (((106 : Int32) + ((4 : Int32) * s34d)) + (0 : Int32))).bind fun x39 =>
          Option.bind (α := St × Int32) (β := ((St × Int32 × Int32 × Int32) ⊕ (St × Int32)))
            (if (tF_isUnder x1 x39) = 0 then
              some (s34a, (-1 : Int32))
            else
              (rd (s34a 1) 340 (((106 : Int32) + ((4 : Int32) * s34d)) + (3 : Int32))).bind fun x44 =>
              (tF_isSo s34a s34c x44 a1).bind (un2 fun y45a y45b =>
              if y45a = 0 then
                some (y45b, (-1 : Int32))
              else
                some (y45b, ((106 : Int32) + ((4 : Int32) * s34d)))))
            (un2 fun j41a j41b => (rd (j41a 1) 340 (((106 : Int32) + ((4 : Int32) * s34d)) + (3 : Int32))).bind fun x43 =>
            some (.inl (j41a, j41b, x43, (s34d + (1 : Int32)))))) (g, (-1 : Int32), (0 : Int32), (0 : Int32)))
    (un2 fun j2a j2b => Option.bind (α := Int32) (β := Int32 × St)
      (if 0 ≤ j2b then
        (rd (j2a 1) 340 (j2b + (1 : Int32))).bind fun x31 =>
        some x31
      else
        some (-1 : Int32))
      (fun j4 => Option.bind (α := Int32) (β := Int32 × St)
        (if 0 ≤ j2b then
          (rd (j2a 1) 340 (j2b + (2 : Int32))).bind fun x28 =>
          some x28
        else
          some (0 : Int32))
        (fun j6 => (tF_its j2a a1 (2 : Int32)).bind fun x8 =>
        (rd (j2a 1) 340 ((6 : Int32) + x8)).bind fun x9 =>
        (tF_its j2a a1 (1 : Int32)).bind fun x10 =>
        (rd (j2a 1) 340 ((6 : Int32) + x10)).bind fun x11 =>
        (rd (j2a 1) 340 (2 : Int32)).bind fun x12 =>
        Option.bind (α := Int32) (β := Int32 × St)
          (if j4 = 0 then
            some (((tF_atLeast (x9 - x11)) + x12) + j6)
          else
            if j4 = (1 : Int32) then
              some (tF_atLeast (((tF_atLeast (x9 - x11)) + x12) - j6))
            else
              if j4 = (2 : Int32) then
                some (0 : Int32)
              else
                some ((tF_atLeast (x9 - x11)) + x12))
          (fun j13 => (tF_its j2a a1 (3 : Int32)).bind fun x15 =>
          (dv x15 (10 : Int32)).bind fun x16 =>
          if x1 = (2 : Int32) then
            some ((tF_atLeast (j13 - x16)), j2a)
          else if x1 = (3 : Int32) then
            (tF_wholeSet j2a).bind fun x18 =>
            if x18 = 0 then
              (dv (tF_atLeast (j13 - x16)) (2 : Int32)).bind fun x19 =>
              some (x19, j2a)
            else
              some ((tF_atLeast (j13 - x16)), j2a)
          else if x1 = (4 : Int32) then
            some (((2 : Int32) * j13), j2a)
          else if x1 = (5 : Int32) then
            some ((tF_atLeast (((2 : Int32) * j13) - (7 : Int32))), j2a)
          else 
            some (j13, j2a)))))
set_option maxHeartbeats 4000000 in
theorem tC_asked {l : Launch} {D : va_G} {A : Nat → Prop} {o : Nat} {ad : Nat → Nat} {dI : ClassId} {g : St} {a1 : Int32} {z : Int32 × St} (hf : tF_asked g a1 = some z) : Ct l yX6_asked cX6_asked 9 (some .int) 6 134 D vwCl [(dI, .int)] A (tW o ad dI) [.ref o, .int a1] g (QI D vwCl A (tW o ad dI) z.1 z.2) := by
  unfold tF_asked at hf
  refine ct_intro (own := RX6) (lv0 := [(0, .ref o), (1, .int a1)]) (by decide) rfl (Nat.le_of_ble_eq_true rfl) rfl ?_
  intro p e s m args below meth c X hr
  refine tw_aload_n X dX6_asked_0 rfl 0 rfl ?_
  refine tw_iload_n X dX6_asked_1 rfl 1 rfl ?_
  refine tw_iconst (v := 0) X dX6_asked_2 rfl ?_
  obtain ⟨x1, hx1, hf⟩ := bnd hf
  refine tw_callVi (As := [.int a1, .int (0 : Int32)]) (st := []) X (tC_its hx1) tG_its tI_its ⟨Nat.le_of_ble_eq_true rfl, Nat.le_of_ble_eq_true rfl⟩ ⟨Nat.zero_le _, Nat.zero_le _⟩ 0 rfl rfl rfl rfl (Nat.le_of_ble_eq_true rfl) dX6_asked_3 ?_
  refine tw_istore_n (lv' := [(2, .int x1), (0, .ref o), (1, .int a1)]) X dX6_asked_6 rfl (by decide) rfl ?_
  refine tw_iconst (v := -1) X dX6_asked_7 rfl ?_
  refine tw_istore_n (lv' := [(3, .int (-1 : Int32)), (2, .int x1), (0, .ref o), (1, .int a1)]) X dX6_asked_8 rfl (by decide) rfl ?_
  refine tw_iconst (v := 0) X dX6_asked_9 rfl ?_
  refine tw_istore (lv' := [(4, .int (0 : Int32)), (3, .int (-1 : Int32)), (2, .int x1), (0, .ref o), (1, .int a1)]) X dX6_asked_10 (by decide) rfl ?_
  refine tw_iconst (v := 0) X dX6_asked_12 rfl ?_
  refine tw_istore (lv' := [(5, .int (0 : Int32)), (4, .int (0 : Int32)), (3, .int (-1 : Int32)), (2, .int x1), (0, .ref o), (1, .int a1)]) X dX6_asked_13 (by decide) rfl ?_
  refine bj_walk (P := un2 fun j2a j2b => TW p l e (rom 6 134) s m args below meth c (MQ below (QI D vwCl A (tW o ad dI) z.1 z.2) args s 0 0 A) D vwCl A (tW o ad dI) 9 0 0 j2a 98 [(0, .ref o), (1, .int a1), (2, .int x1), (3, .int j2b)] []) hf ?_ ?_
  · rintro ⟨j2a, j2b⟩ hf
    dsimp only [un2] at hf ⊢
    refine tw_iload_n X dX6_asked_98 rfl 3 rfl ?_
    refine bj_walk (P := fun j4 : Int32 => TW p l e (rom 6 134) s m args below meth c (MQ below (QI D vwCl A (tW o ad dI) z.1 z.2) args s 0 0 A) D vwCl A (tW o ad dI) 9 0 0 j2a 114 [(0, .ref o), (1, .int a1), (2, .int x1), (3, .int j2b)] [.int j4]) hf ?_ ?_
    · intro j4 hf
      refine tw_istore (lv' := [(5, .int j4), (0, .ref o), (1, .int a1), (2, .int x1), (3, .int j2b)]) X dX6_asked_114 (by decide) rfl ?_
      refine tw_iload_n X dX6_asked_116 rfl 4 rfl ?_
      refine bj_walk (P := fun j6 : Int32 => TW p l e (rom 6 134) s m args below meth c (MQ below (QI D vwCl A (tW o ad dI) z.1 z.2) args s 0 0 A) D vwCl A (tW o ad dI) 9 0 0 j2a 132 [(0, .ref o), (1, .int a1), (2, .int x1), (5, .int j4)] [.int j6]) hf ?_ ?_
      · intro j6 hf
        refine tw_istore (lv' := [(6, .int j6), (0, .ref o), (1, .int a1), (2, .int x1), (5, .int j4)]) X dX6_asked_132 (by decide) rfl ?_
        refine tw_aload_n X dX6_asked_134 rfl 1 rfl ?_
        refine tg_s X  dX6_asked_135 ?_
        refine tw_bipush (v := 6) X dX6_asked_138 rfl ?_
        refine tw_aload_n X dX6_asked_140 rfl 1 rfl ?_
        refine tw_iload_n X dX6_asked_141 rfl 2 rfl ?_
        refine tw_iconst (v := 2) X dX6_asked_142 rfl ?_
        obtain ⟨x8, hx8, hf⟩ := bnd hf
        refine tw_callVi (As := [.int a1, .int (2 : Int32)]) (st := [.int (6 : Int32), .ref (ad 0)]) X (tC_its hx8) tG_its tI_its ⟨Nat.le_of_ble_eq_true rfl, Nat.le_of_ble_eq_true rfl⟩ ⟨Nat.zero_le _, Nat.zero_le _⟩ 0 rfl rfl rfl rfl (Nat.le_of_ble_eq_true rfl) dX6_asked_143 ?_
        refine tw_iadd X dX6_asked_146 ?_
        obtain ⟨x9, hx9, hf⟩ := bnd hf
        refine ta_s X hx9 dX6_asked_147 ?_
        refine tw_aload_n X dX6_asked_148 rfl 1 rfl ?_
        refine tg_s X  dX6_asked_149 ?_
        refine tw_bipush (v := 6) X dX6_asked_152 rfl ?_
        refine tw_aload_n X dX6_asked_154 rfl 1 rfl ?_
        refine tw_iload_n X dX6_asked_155 rfl 2 rfl ?_
        refine tw_iconst (v := 1) X dX6_asked_156 rfl ?_
        obtain ⟨x10, hx10, hf⟩ := bnd hf
        refine tw_callVi (As := [.int a1, .int (1 : Int32)]) (st := [.int (6 : Int32), .ref (ad 0), .int x9]) X (tC_its hx10) tG_its tI_its ⟨Nat.le_of_ble_eq_true rfl, Nat.le_of_ble_eq_true rfl⟩ ⟨Nat.zero_le _, Nat.zero_le _⟩ 0 rfl rfl rfl rfl (Nat.le_of_ble_eq_true rfl) dX6_asked_157 ?_
        refine tw_iadd X dX6_asked_160 ?_
        obtain ⟨x11, hx11, hf⟩ := bnd hf
        refine ta_s X hx11 dX6_asked_161 ?_
        refine tw_isub X dX6_asked_162 ?_
        refine tw_callSi (As := [.int (x9 - x11)]) (st := []) X (tC_atLeast (g := j2a) (x9 - x11)) tG_atLeast tI_atLeast ⟨Nat.le_of_ble_eq_true rfl, Nat.le_of_ble_eq_true rfl⟩ ⟨Nat.zero_le _, Nat.zero_le _⟩ rfl rfl (Nat.le_of_ble_eq_true rfl) dX6_asked_163 ?_
        refine tw_aload_n X dX6_asked_166 rfl 1 rfl ?_
        refine tg_s X  dX6_asked_167 ?_
        refine tw_iconst (v := 2) X dX6_asked_170 rfl ?_
        obtain ⟨x12, hx12, hf⟩ := bnd hf
        refine ta_s X hx12 dX6_asked_171 ?_
        refine tw_iadd X dX6_asked_172 ?_
        refine tw_istore (lv' := [(7, .int ((tF_atLeast (x9 - x11)) + x12)), (6, .int j6), (0, .ref o), (1, .int a1), (2, .int x1), (5, .int j4)]) X dX6_asked_173 (by decide) rfl ?_
        refine tw_iload X dX6_asked_175 5 rfl ?_
        refine bj_walk (P := fun j13 : Int32 => TW p l e (rom 6 134) s m args below meth c (MQ below (QI D vwCl A (tW o ad dI) z.1 z.2) args s 0 0 A) D vwCl A (tW o ad dI) 9 0 0 j2a 217 [(0, .ref o), (1, .int a1), (2, .int x1)] [.int j13]) hf ?_ ?_
        · intro j13 hf
          refine tw_istore (lv' := [(7, .int j13), (0, .ref o), (1, .int a1), (2, .int x1)]) X dX6_asked_217 (by decide) rfl ?_
          refine tw_iload X dX6_asked_219 0 rfl ?_
          refine tw_aload_n X dX6_asked_221 rfl 1 rfl ?_
          refine tw_iload_n X dX6_asked_222 rfl 2 rfl ?_
          refine tw_iconst (v := 3) X dX6_asked_223 rfl ?_
          obtain ⟨x15, hx15, hf⟩ := bnd hf
          refine tw_callVi (As := [.int a1, .int (3 : Int32)]) (st := [.int j13]) X (tC_its hx15) tG_its tI_its ⟨Nat.le_of_ble_eq_true rfl, Nat.le_of_ble_eq_true rfl⟩ ⟨Nat.zero_le _, Nat.zero_le _⟩ 0 rfl rfl rfl rfl (Nat.le_of_ble_eq_true rfl) dX6_asked_224 ?_
          refine tw_bipush (v := 10) X dX6_asked_227 rfl ?_
          obtain ⟨x16, hx16, hf⟩ := bnd hf
          refine tw_idivV X dX6_asked_229 hx16 ?_
          refine tw_isub X dX6_asked_230 ?_
          refine tw_callSi (As := [.int (j13 - x16)]) (st := []) X (tC_atLeast (g := j2a) (j13 - x16)) tG_atLeast tI_atLeast ⟨Nat.le_of_ble_eq_true rfl, Nat.le_of_ble_eq_true rfl⟩ ⟨Nat.zero_le _, Nat.zero_le _⟩ rfl rfl (Nat.le_of_ble_eq_true rfl) dX6_asked_231 ?_
          refine tw_istore (lv' := [(8, .int (tF_atLeast (j13 - x16))), (7, .int j13), (0, .ref o), (1, .int a1), (2, .int x1)]) X dX6_asked_234 (by decide) rfl ?_
          refine tw_iload_n X dX6_asked_236 rfl 4 rfl ?_
          by_cases w17 : x1 = (2 : Int32)
          · rw [if_pos w17] at hf
            refine tw_tableIn (off := 31) (tgt := 268) X dX6_asked_237 w17 (by decide) (by decide) rfl rfl ?_
            refine tw_iload X dX6_asked_268 0 rfl ?_
            exact tw_iret X hr (prj1 hf) (prj2 hf) dX6_asked_270
          · rw [if_neg w17] at hf
            by_cases w21 : x1 = (3 : Int32)
            · rw [if_pos w21] at hf
              refine tw_tableIn (off := 34) (tgt := 271) X dX6_asked_237 w21 (by decide) (by decide) rfl rfl ?_
              refine tw_aload_n X dX6_asked_271 rfl 2 rfl ?_
              obtain ⟨x18, hx18, hf⟩ := bnd hf
              refine tw_callVi (As := []) (st := []) X (tC_wholeSet hx18) tG_wholeSet tI_wholeSet ⟨Nat.le_of_ble_eq_true rfl, Nat.le_of_ble_eq_true rfl⟩ ⟨Nat.zero_le _, Nat.zero_le _⟩ 0 rfl rfl rfl rfl (Nat.le_of_ble_eq_true rfl) dX6_asked_272 ?_
              refine tw_if_ne (tgt := 285) X dX6_asked_275 rfl hf (fun q20 hf => ?_) (fun q20 hf => ?_)
              · clear q20
                refine tw_iload X dX6_asked_278 0 rfl ?_
                refine tw_iconst (v := 2) X dX6_asked_280 rfl ?_
                obtain ⟨x19, hx19, hf⟩ := bnd hf
                refine tw_idivV X dX6_asked_281 hx19 ?_
                refine tw_goto (tgt := 287) X dX6_asked_282 rfl ?_
                exact tw_iret X hr (prj1 hf) (prj2 hf) dX6_asked_287
              · clear q20
                refine tw_iload X dX6_asked_285 0 rfl ?_
                exact tw_iret X hr (prj1 hf) (prj2 hf) dX6_asked_287
            · rw [if_neg w21] at hf
              by_cases w22 : x1 = (4 : Int32)
              · rw [if_pos w22] at hf
                refine tw_tableIn (off := 51) (tgt := 288) X dX6_asked_237 w22 (by decide) (by decide) rfl rfl ?_
                refine tw_iconst (v := 2) X dX6_asked_288 rfl ?_
                refine tw_iload X dX6_asked_289 1 rfl ?_
                refine tw_imul X dX6_asked_291 ?_
                exact tw_iret X hr (prj1 hf) (prj2 hf) dX6_asked_292
              · rw [if_neg w22] at hf
                by_cases w23 : x1 = (5 : Int32)
                · rw [if_pos w23] at hf
                  refine tw_tableIn (off := 56) (tgt := 293) X dX6_asked_237 w23 (by decide) (by decide) rfl rfl ?_
                  refine tw_iconst (v := 2) X dX6_asked_293 rfl ?_
                  refine tw_iload X dX6_asked_294 1 rfl ?_
                  refine tw_imul X dX6_asked_296 ?_
                  refine tw_bipush (v := 7) X dX6_asked_297 rfl ?_
                  refine tw_isub X dX6_asked_299 ?_
                  refine tw_callSi (As := [.int (((2 : Int32) * j13) - (7 : Int32))]) (st := []) X (tC_atLeast (g := j2a) (((2 : Int32) * j13) - (7 : Int32))) tG_atLeast tI_atLeast ⟨Nat.le_of_ble_eq_true rfl, Nat.le_of_ble_eq_true rfl⟩ ⟨Nat.zero_le _, Nat.zero_le _⟩ rfl rfl (Nat.le_of_ble_eq_true rfl) dX6_asked_300 ?_
                  exact tw_iret X hr (prj1 hf) (prj2 hf) dX6_asked_303
                · rw [if_neg w23] at hf
                  refine tw_tableOut (tgt := 304) X dX6_asked_237 (by have w17' : x1.toInt ≠ 2 := i32_ne w17; have w21' : x1.toInt ≠ 3 := i32_ne w21; have w22' : x1.toInt ≠ 4 := i32_ne w22; have w23' : x1.toInt ≠ 5 := i32_ne w23; omega) rfl ?_
                  refine tw_iload X dX6_asked_304 1 rfl ?_
                  exact tw_iret X hr (prj1 hf) (prj2 hf) dX6_asked_306
        · intro zz27 hf hk14
          refine tw_if_ne (tgt := 188) X dX6_asked_177 rfl hf (fun q26 hf => ?_) (fun q26 hf => ?_)
          · clear q26
            refine tw_iload X dX6_asked_180 0 rfl ?_
            refine tw_iload X dX6_asked_182 1 rfl ?_
            refine tw_iadd X dX6_asked_184 ?_
            refine tw_goto (tgt := 217) X dX6_asked_185 rfl ?_
            refine tw_sub [2, 3, 4] (lv' := [(0, .ref o), (1, .int a1), (2, .int x1)]) rfl ?_
            have hL := hk14 _ hf
            exact hL
          · clear q26
            refine tw_iload X dX6_asked_188 5 rfl ?_
            refine tw_iconst (v := 1) X dX6_asked_190 rfl ?_
            refine tw_icmp_ne (tgt := 205) X dX6_asked_191 rfl hf (fun q25 hf => ?_) (fun q25 hf => ?_)
            · clear q25
              refine tw_iload X dX6_asked_194 0 rfl ?_
              refine tw_iload X dX6_asked_196 1 rfl ?_
              refine tw_isub X dX6_asked_198 ?_
              refine tw_callSi (As := [.int (((tF_atLeast (x9 - x11)) + x12) - j6)]) (st := []) X (tC_atLeast (g := j2a) (((tF_atLeast (x9 - x11)) + x12) - j6)) tG_atLeast tI_atLeast ⟨Nat.le_of_ble_eq_true rfl, Nat.le_of_ble_eq_true rfl⟩ ⟨Nat.zero_le _, Nat.zero_le _⟩ rfl rfl (Nat.le_of_ble_eq_true rfl) dX6_asked_199 ?_
              refine tw_goto (tgt := 217) X dX6_asked_202 rfl ?_
              refine tw_sub [2, 3, 4] (lv' := [(0, .ref o), (1, .int a1), (2, .int x1)]) rfl ?_
              have hL := hk14 _ hf
              exact hL
            · clear q25
              refine tw_iload X dX6_asked_205 5 rfl ?_
              refine tw_iconst (v := 2) X dX6_asked_207 rfl ?_
              refine tw_icmp_ne (tgt := 215) X dX6_asked_208 rfl hf (fun q24 hf => ?_) (fun q24 hf => ?_)
              · clear q24
                refine tw_iconst (v := 0) X dX6_asked_211 rfl ?_
                refine tw_goto (tgt := 217) X dX6_asked_212 rfl ?_
                refine tw_sub [2, 3, 4] (lv' := [(0, .ref o), (1, .int a1), (2, .int x1)]) rfl ?_
                have hL := hk14 _ hf
                exact hL
              · clear q24
                refine tw_iload X dX6_asked_215 0 rfl ?_
                refine tw_sub [2, 3, 4] (lv' := [(0, .ref o), (1, .int a1), (2, .int x1)]) rfl ?_
                have hL := hk14 _ hf
                exact hL
      · intro zz30 hf hk7
        refine tw_if_ge (tgt := 124) X dX6_asked_117 rfl hf (fun q29 hf => ?_) (fun q29 hf => ?_)
        · clear q29
          refine tw_aload_n X dX6_asked_124 rfl 1 rfl ?_
          refine tg_s X  dX6_asked_125 ?_
          refine tw_iload_n X dX6_asked_128 rfl 4 rfl ?_
          refine tw_iconst (v := 2) X dX6_asked_129 rfl ?_
          refine tw_iadd X dX6_asked_130 ?_
          obtain ⟨x28, hx28, hf⟩ := bnd hf
          refine ta_s X hx28 dX6_asked_131 ?_
          refine tw_sub [1, 2, 3, 0] (lv' := [(0, .ref o), (1, .int a1), (2, .int x1), (5, .int j4)]) rfl ?_
          have hL := hk7 _ hf
          exact hL
        · clear q29
          refine tw_iconst (v := 0) X dX6_asked_120 rfl ?_
          refine tw_goto (tgt := 132) X dX6_asked_121 rfl ?_
          refine tw_sub [1, 2, 3, 0] (lv' := [(0, .ref o), (1, .int a1), (2, .int x1), (5, .int j4)]) rfl ?_
          have hL := hk7 _ hf
          exact hL
    · intro zz33 hf hk5
      refine tw_if_ge (tgt := 106) X dX6_asked_99 rfl hf (fun q32 hf => ?_) (fun q32 hf => ?_)
      · clear q32
        refine tw_aload_n X dX6_asked_106 rfl 0 rfl ?_
        refine tg_s X  dX6_asked_107 ?_
        refine tw_iload_n X dX6_asked_110 rfl 3 rfl ?_
        refine tw_iconst (v := 1) X dX6_asked_111 rfl ?_
        refine tw_iadd X dX6_asked_112 ?_
        obtain ⟨x31, hx31, hf⟩ := bnd hf
        refine ta_s X hx31 dX6_asked_113 ?_
        have hL := hk5 _ hf
        exact hL
      · clear q32
        refine tw_iconst (v := -1) X dX6_asked_102 rfl ?_
        refine tw_goto (tgt := 114) X dX6_asked_103 rfl ?_
        have hL := hk5 _ hf
        exact hL
  · intro zz53 hf hk3
    refine tw_sub [4, 5, 3, 2, 1, 0] (lv' := [(0, .ref o), (1, .int a1), (2, .int x1), (3, .int (-1 : Int32)), (4, .int (0 : Int32)), (5, .int (0 : Int32))]) rfl ?_
    refine it_walk (P := un4 fun s34a s34b s34c s34d => TW p l e (rom 6 134) s m args below meth c (MQ below (QI D vwCl A (tW o ad dI) z.1 z.2) args s 0 0 A) D vwCl A (tW o ad dI) 9 0 0 s34a 15 [(0, .ref o), (1, .int a1), (2, .int x1), (3, .int s34b), (4, .int s34c), (5, .int s34d)] []) hf ?_
    rintro ⟨s34a, s34b, s34c, s34d⟩ zz52 hf hl35
    dsimp only [un4] at hf ⊢
    refine tw_iload X dX6_asked_15 5 rfl ?_
    refine tw_aload_n X dX6_asked_17 rfl 0 rfl ?_
    refine tg_s X  dX6_asked_18 ?_
    refine tw_iconst (v := 1) X dX6_asked_21 rfl ?_
    obtain ⟨x36, hx36, hf⟩ := bnd hf
    refine ta_s X hx36 dX6_asked_22 ?_
    refine tw_icmp_ge (tgt := 98) X dX6_asked_23 rfl hf (fun q51 hf => ?_) (fun q51 hf => ?_)
    · clear q51
      have hf37 := leafR hf hl35
      refine tw_sub [0, 1, 2, 3] (lv' := [(0, .ref o), (1, .int a1), (2, .int x1), (3, .int s34b)]) rfl ?_
      have hL := hk3 _ hf37
      exact hL
    · clear q51
      refine tw_iload_n X dX6_asked_26 rfl 3 rfl ?_
      refine tw_if_ge (tgt := 98) X dX6_asked_27 rfl hf (fun q50 hf => ?_) (fun q50 hf => ?_)
      · clear q50
        have hf38 := leafR hf hl35
        refine tw_sub [0, 1, 2, 3] (lv' := [(0, .ref o), (1, .int a1), (2, .int x1), (3, .int s34b)]) rfl ?_
        have hL := hk3 _ hf38
        exact hL
      · clear q50
        refine tw_bipush (v := 106) X dX6_asked_30 rfl ?_
        refine tw_iconst (v := 4) X dX6_asked_32 rfl ?_
        refine tw_iload X dX6_asked_33 5 rfl ?_
        refine tw_imul X dX6_asked_35 ?_
        refine tw_iadd X dX6_asked_36 ?_
        refine tw_istore (lv' := [(6, .int ((106 : Int32) + ((4 : Int32) * s34d))), (0, .ref o), (1, .int a1), (2, .int x1), (3, .int s34b), (4, .int s34c), (5, .int s34d)]) X dX6_asked_37 (by decide) rfl ?_
        refine tw_iload_n X dX6_asked_39 rfl 3 rfl ?_
        refine tw_aload_n X dX6_asked_40 rfl 1 rfl ?_
        refine tg_s X  dX6_asked_41 ?_
        refine tw_iload X dX6_asked_44 0 rfl ?_
        refine tw_iconst (v := 0) X dX6_asked_46 rfl ?_
        refine tw_iadd X dX6_asked_47 ?_
        obtain ⟨x39, hx39, hf⟩ := bnd hf
        refine ta_s X hx39 dX6_asked_48 ?_
        refine tw_callSz (As := [.int x1, .int x39]) (st := []) X (tC_isUnder (g := s34a) x1 x39) tG_isUnder tI_isUnder ⟨Nat.le_of_ble_eq_true rfl, Nat.le_of_ble_eq_true rfl⟩ ⟨Nat.zero_le _, Nat.zero_le _⟩ rfl rfl (Nat.le_of_ble_eq_true rfl) dX6_asked_49 ?_
        intro hb40
        refine bj_walk (P := un2 fun j41a j41b => TW p l e (rom 6 134) s m args below meth c (MQ below (QI D vwCl A (tW o ad dI) z.1 z.2) args s 0 0 A) D vwCl A (tW o ad dI) 9 0 0 j41a 80 [(0, .ref o), (1, .int a1), (2, .int x1), (5, .int s34d), (6, .int ((106 : Int32) + ((4 : Int32) * s34d)))] [.int j41b]) hf ?_ ?_
        · rintro ⟨j41a, j41b⟩ hf
          dsimp only [un2] at hf ⊢
          refine tw_istore_n (lv' := [(3, .int j41b), (0, .ref o), (1, .int a1), (2, .int x1), (5, .int s34d), (6, .int ((106 : Int32) + ((4 : Int32) * s34d)))]) X dX6_asked_80 rfl (by decide) rfl ?_
          refine tw_aload_n X dX6_asked_81 rfl 1 rfl ?_
          refine tg_s X  dX6_asked_82 ?_
          refine tw_iload X dX6_asked_85 5 rfl ?_
          refine tw_iconst (v := 3) X dX6_asked_87 rfl ?_
          refine tw_iadd X dX6_asked_88 ?_
          obtain ⟨x43, hx43, hf⟩ := bnd hf
          refine ta_s X hx43 dX6_asked_89 ?_
          refine tw_istore (lv' := [(4, .int x43), (3, .int j41b), (0, .ref o), (1, .int a1), (2, .int x1), (5, .int s34d), (6, .int ((106 : Int32) + ((4 : Int32) * s34d)))]) X dX6_asked_90 (by decide) rfl ?_
          refine tw_iinc (q := 5) (v := (s34d + (1 : Int32))) (lv' := [(5, .int (s34d + (1 : Int32))), (4, .int x43), (3, .int j41b), (0, .ref o), (1, .int a1), (2, .int x1), (6, .int ((106 : Int32) + ((4 : Int32) * s34d)))]) X dX6_asked_92 rfl rfl (by decide) rfl ?_
          refine tw_goto (tgt := 15) X dX6_asked_95 rfl ?_
          refine tw_sub [3, 4, 5, 2, 1, 0] (lv' := [(0, .ref o), (1, .int a1), (2, .int x1), (3, .int j41b), (4, .int x43), (5, .int (s34d + (1 : Int32)))]) rfl ?_
          have hL := leafL hf hl35
          exact hL
        · intro zz49 hf hk42
          refine tw_if_eq (tgt := 79) X dX6_asked_52 rfl hf (fun q48 hf => ?_) (fun q48 hf => ?_)
          · clear q48
            refine tw_iconst (v := -1) X dX6_asked_79 rfl ?_
            refine tw_sub [1, 2, 3, 6, 0] (lv' := [(0, .ref o), (1, .int a1), (2, .int x1), (5, .int s34d), (6, .int ((106 : Int32) + ((4 : Int32) * s34d)))]) rfl ?_
            have hL := hk42 _ hf
            exact hL
          · clear q48
            refine tw_aload_n X dX6_asked_55 rfl 1 rfl ?_
            refine tw_iload X dX6_asked_56 5 rfl ?_
            refine tw_aload_n X dX6_asked_58 rfl 1 rfl ?_
            refine tg_s X  dX6_asked_59 ?_
            refine tw_iload X dX6_asked_62 0 rfl ?_
            refine tw_iconst (v := 3) X dX6_asked_64 rfl ?_
            refine tw_iadd X dX6_asked_65 ?_
            obtain ⟨x44, hx44, hf⟩ := bnd hf
            refine ta_s X hx44 dX6_asked_66 ?_
            refine tw_iload_n X dX6_asked_67 rfl 2 rfl ?_
            obtain ⟨⟨y45a, y45b⟩, hy45, hf⟩ := bnd hf
            dsimp only [un2] at hf
            refine tw_callVz (As := [.int s34c, .int x44, .int a1]) (st := []) X (tC_isSo hy45) tG_isSo tI_isSo ⟨Nat.le_of_ble_eq_true rfl, Nat.le_of_ble_eq_true rfl⟩ ⟨Nat.zero_le _, Nat.zero_le _⟩ 0 rfl rfl rfl rfl (Nat.le_of_ble_eq_true rfl) dX6_asked_68 ?_
            intro hb46
            refine tw_if_eq (tgt := 79) X dX6_asked_71 rfl hf (fun q47 hf => ?_) (fun q47 hf => ?_)
            · clear q47
              refine tw_iconst (v := -1) X dX6_asked_79 rfl ?_
              refine tw_sub [1, 2, 3, 6, 0] (lv' := [(0, .ref o), (1, .int a1), (2, .int x1), (5, .int s34d), (6, .int ((106 : Int32) + ((4 : Int32) * s34d)))]) rfl ?_
              have hL := hk42 _ hf
              exact hL
            · clear q47
              refine tw_iload X dX6_asked_74 0 rfl ?_
              refine tw_goto (tgt := 80) X dX6_asked_76 rfl ?_
              refine tw_sub [1, 2, 3, 6, 0] (lv' := [(0, .ref o), (1, .int a1), (2, .int x1), (5, .int s34d), (6, .int ((106 : Int32) + ((4 : Int32) * s34d)))]) rfl ?_
              have hL := hk42 _ hf
              exact hL
noncomputable def tF_canBe (g : St) (a1 : Int32) : Option (Int32 × St) :=
  (dv a1 (10 : Int32)).bind fun x1 =>
  (rm a1 (10 : Int32)).bind fun x2 =>
  (tF_isThere g x1).bind fun x3 =>
  if x3 = 0 then
    some ((0 : Int32), g)
  else
    if x2 = (9 : Int32) then
      (tF_its g x1 (2 : Int32)).bind fun x5 =>
      (rd (g 1) 340 ((14 : Int32) + x5)).bind fun x6 =>
      if x6 ≤ 0 then
        some ((0 : Int32), g)
      else
        (tF_its g x1 (1 : Int32)).bind fun x7 =>
        (rd (g 1) 340 ((14 : Int32) + x7)).bind fun x8 =>
        if (99 : Int32) ≤ x8 then
          some ((0 : Int32), g)
        else
          (tF_its g x1 (3 : Int32)).bind fun x9 =>
          (tF_asked g x1).bind (un2 fun y10a y10b =>
          if x9 < y10a then
            some ((0 : Int32), y10b)
          else
            some ((1 : Int32), y10b))
    else
      (tF_isThere g x2).bind fun x14 =>
      if x14 = 0 then
        some ((0 : Int32), g)
      else
        (tF_doMeet g x1 x2).bind fun x16 =>
        if x16 = 0 then
          some ((0 : Int32), g)
        else
          (tF_its g x1 (1 : Int32)).bind fun x18 =>
          (tF_its g x2 (2 : Int32)).bind fun x19 =>
          if x18 = x19 then
            some ((1 : Int32), g)
          else
            (tF_its g x2 (1 : Int32)).bind fun x20 =>
            (tF_its g x1 (2 : Int32)).bind fun x21 =>
            if x20 = x21 then
              some ((1 : Int32), g)
            else
              some ((0 : Int32), g)
set_option maxHeartbeats 4000000 in
theorem tC_canBe {l : Launch} {D : va_G} {A : Nat → Prop} {o : Nat} {ad : Nat → Nat} {dI : ClassId} {g : St} {a1 : Int32} {z : Int32 × St} (hf : tF_canBe g a1 = some z) : Ct l yX6_canBe cX6_canBe 4 (some .boolean) 7 162 D vwCl [(dI, .int)] A (tW o ad dI) [.ref o, .int a1] g (QZ D vwCl A (tW o ad dI) z.1 z.2) := by
  unfold tF_canBe at hf
  refine ct_intro (own := RX6) (lv0 := [(0, .ref o), (1, .int a1)]) (by decide) rfl (Nat.le_of_ble_eq_true rfl) rfl ?_
  intro p e s m args below meth c X hr
  refine tw_iload_n X dX6_canBe_0 rfl 1 rfl ?_
  refine tw_bipush (v := 10) X dX6_canBe_1 rfl ?_
  obtain ⟨x1, hx1, hf⟩ := bnd hf
  refine tw_idivV X dX6_canBe_3 hx1 ?_
  refine tw_istore_n (lv' := [(2, .int x1), (0, .ref o), (1, .int a1)]) X dX6_canBe_4 rfl (by decide) rfl ?_
  refine tw_iload_n X dX6_canBe_5 rfl 2 rfl ?_
  refine tw_bipush (v := 10) X dX6_canBe_6 rfl ?_
  obtain ⟨x2, hx2, hf⟩ := bnd hf
  refine tw_iremV X dX6_canBe_8 hx2 ?_
  refine tw_istore_n (lv' := [(3, .int x2), (2, .int x1), (0, .ref o), (1, .int a1)]) X dX6_canBe_9 rfl (by decide) rfl ?_
  refine tw_aload_n X dX6_canBe_10 rfl 2 rfl ?_
  refine tw_iload_n X dX6_canBe_11 rfl 1 rfl ?_
  obtain ⟨x3, hx3, hf⟩ := bnd hf
  refine tw_callVz (As := [.int x1]) (st := []) X (tC_isThere hx3) tG_isThere tI_isThere ⟨Nat.le_of_ble_eq_true rfl, Nat.le_of_ble_eq_true rfl⟩ ⟨Nat.zero_le _, Nat.zero_le _⟩ 0 rfl rfl rfl rfl (Nat.le_of_ble_eq_true rfl) dX6_canBe_12 ?_
  intro hb4
  refine tw_if_ne (tgt := 20) X dX6_canBe_15 rfl hf (fun q27 hf => ?_) (fun q27 hf => ?_)
  · clear q27
    refine tw_iconst (v := 0) X dX6_canBe_18 rfl ?_
    exact tw_zret X hr (Or.inl rfl) (prj1 hf) (prj2 hf) dX6_canBe_19
  · clear q27
    refine tw_iload_n X dX6_canBe_20 rfl 0 rfl ?_
    refine tw_bipush (v := 9) X dX6_canBe_21 rfl ?_
    refine tw_icmp_ne (tgt := 82) X dX6_canBe_23 rfl hf (fun q26 hf => ?_) (fun q26 hf => ?_)
    · clear q26
      refine tw_aload_n X dX6_canBe_26 rfl 2 rfl ?_
      refine tg_s X  dX6_canBe_27 ?_
      refine tw_bipush (v := 14) X dX6_canBe_30 rfl ?_
      refine tw_aload_n X dX6_canBe_32 rfl 2 rfl ?_
      refine tw_iload_n X dX6_canBe_33 rfl 1 rfl ?_
      refine tw_iconst (v := 2) X dX6_canBe_34 rfl ?_
      obtain ⟨x5, hx5, hf⟩ := bnd hf
      refine tw_callVi (As := [.int x1, .int (2 : Int32)]) (st := [.int (14 : Int32), .ref (ad 0)]) X (tC_its hx5) tG_its tI_its ⟨Nat.le_of_ble_eq_true rfl, Nat.le_of_ble_eq_true rfl⟩ ⟨Nat.zero_le _, Nat.zero_le _⟩ 0 rfl rfl rfl rfl (Nat.le_of_ble_eq_true rfl) dX6_canBe_35 ?_
      refine tw_iadd X dX6_canBe_38 ?_
      obtain ⟨x6, hx6, hf⟩ := bnd hf
      refine ta_s X hx6 dX6_canBe_39 ?_
      refine tw_if_le (tgt := 80) X dX6_canBe_40 rfl hf (fun q13 hf => ?_) (fun q13 hf => ?_)
      · clear q13
        refine tw_iconst (v := 0) X dX6_canBe_80 rfl ?_
        exact tw_zret X hr (Or.inl rfl) (prj1 hf) (prj2 hf) dX6_canBe_81
      · clear q13
        refine tw_aload_n X dX6_canBe_43 rfl 2 rfl ?_
        refine tg_s X  dX6_canBe_44 ?_
        refine tw_bipush (v := 14) X dX6_canBe_47 rfl ?_
        refine tw_aload_n X dX6_canBe_49 rfl 2 rfl ?_
        refine tw_iload_n X dX6_canBe_50 rfl 1 rfl ?_
        refine tw_iconst (v := 1) X dX6_canBe_51 rfl ?_
        obtain ⟨x7, hx7, hf⟩ := bnd hf
        refine tw_callVi (As := [.int x1, .int (1 : Int32)]) (st := [.int (14 : Int32), .ref (ad 0)]) X (tC_its hx7) tG_its tI_its ⟨Nat.le_of_ble_eq_true rfl, Nat.le_of_ble_eq_true rfl⟩ ⟨Nat.zero_le _, Nat.zero_le _⟩ 0 rfl rfl rfl rfl (Nat.le_of_ble_eq_true rfl) dX6_canBe_52 ?_
        refine tw_iadd X dX6_canBe_55 ?_
        obtain ⟨x8, hx8, hf⟩ := bnd hf
        refine ta_s X hx8 dX6_canBe_56 ?_
        refine tw_bipush (v := 99) X dX6_canBe_57 rfl ?_
        refine tw_icmp_ge (tgt := 80) X dX6_canBe_59 rfl hf (fun q12 hf => ?_) (fun q12 hf => ?_)
        · clear q12
          refine tw_iconst (v := 0) X dX6_canBe_80 rfl ?_
          exact tw_zret X hr (Or.inl rfl) (prj1 hf) (prj2 hf) dX6_canBe_81
        · clear q12
          refine tw_aload_n X dX6_canBe_62 rfl 2 rfl ?_
          refine tw_iload_n X dX6_canBe_63 rfl 1 rfl ?_
          refine tw_iconst (v := 3) X dX6_canBe_64 rfl ?_
          obtain ⟨x9, hx9, hf⟩ := bnd hf
          refine tw_callVi (As := [.int x1, .int (3 : Int32)]) (st := []) X (tC_its hx9) tG_its tI_its ⟨Nat.le_of_ble_eq_true rfl, Nat.le_of_ble_eq_true rfl⟩ ⟨Nat.zero_le _, Nat.zero_le _⟩ 0 rfl rfl rfl rfl (Nat.le_of_ble_eq_true rfl) dX6_canBe_65 ?_
          refine tw_aload_n X dX6_canBe_68 rfl 2 rfl ?_
          refine tw_iload_n X dX6_canBe_69 rfl 1 rfl ?_
          obtain ⟨⟨y10a, y10b⟩, hy10, hf⟩ := bnd hf
          dsimp only [un2] at hf
          refine tw_callVi (As := [.int x1]) (st := [.int x9]) X (tC_asked hy10) tG_asked tI_asked ⟨Nat.le_of_ble_eq_true rfl, Nat.le_of_ble_eq_true rfl⟩ ⟨Nat.zero_le _, Nat.zero_le _⟩ 0 rfl rfl rfl rfl (Nat.le_of_ble_eq_true rfl) dX6_canBe_70 ?_
          refine tw_icmp_lt (tgt := 80) X dX6_canBe_73 rfl hf (fun q11 hf => ?_) (fun q11 hf => ?_)
          · clear q11
            refine tw_iconst (v := 0) X dX6_canBe_80 rfl ?_
            exact tw_zret X hr (Or.inl rfl) (prj1 hf) (prj2 hf) dX6_canBe_81
          · clear q11
            refine tw_iconst (v := 1) X dX6_canBe_76 rfl ?_
            refine tw_goto (tgt := 81) X dX6_canBe_77 rfl ?_
            exact tw_zret X hr (Or.inr rfl) (prj1 hf) (prj2 hf) dX6_canBe_81
    · clear q26
      refine tw_aload_n X dX6_canBe_82 rfl 2 rfl ?_
      refine tw_iload_n X dX6_canBe_83 rfl 0 rfl ?_
      obtain ⟨x14, hx14, hf⟩ := bnd hf
      refine tw_callVz (As := [.int x2]) (st := []) X (tC_isThere hx14) tG_isThere tI_isThere ⟨Nat.le_of_ble_eq_true rfl, Nat.le_of_ble_eq_true rfl⟩ ⟨Nat.zero_le _, Nat.zero_le _⟩ 0 rfl rfl rfl rfl (Nat.le_of_ble_eq_true rfl) dX6_canBe_84 ?_
      intro hb15
      refine tw_if_eq (tgt := 133) X dX6_canBe_87 rfl hf (fun q25 hf => ?_) (fun q25 hf => ?_)
      · clear q25
        refine tw_iconst (v := 0) X dX6_canBe_133 rfl ?_
        exact tw_zret X hr (Or.inl rfl) (prj1 hf) (prj2 hf) dX6_canBe_134
      · clear q25
        refine tw_aload_n X dX6_canBe_90 rfl 2 rfl ?_
        refine tw_iload_n X dX6_canBe_91 rfl 1 rfl ?_
        refine tw_iload_n X dX6_canBe_92 rfl 0 rfl ?_
        obtain ⟨x16, hx16, hf⟩ := bnd hf
        refine tw_callVz (As := [.int x1, .int x2]) (st := []) X (tC_doMeet hx16) tG_doMeet tI_doMeet ⟨Nat.le_of_ble_eq_true rfl, Nat.le_of_ble_eq_true rfl⟩ ⟨Nat.zero_le _, Nat.zero_le _⟩ 0 rfl rfl rfl rfl (Nat.le_of_ble_eq_true rfl) dX6_canBe_93 ?_
        intro hb17
        refine tw_if_eq (tgt := 133) X dX6_canBe_96 rfl hf (fun q24 hf => ?_) (fun q24 hf => ?_)
        · clear q24
          refine tw_iconst (v := 0) X dX6_canBe_133 rfl ?_
          exact tw_zret X hr (Or.inl rfl) (prj1 hf) (prj2 hf) dX6_canBe_134
        · clear q24
          refine tw_aload_n X dX6_canBe_99 rfl 2 rfl ?_
          refine tw_iload_n X dX6_canBe_100 rfl 1 rfl ?_
          refine tw_iconst (v := 1) X dX6_canBe_101 rfl ?_
          obtain ⟨x18, hx18, hf⟩ := bnd hf
          refine tw_callVi (As := [.int x1, .int (1 : Int32)]) (st := []) X (tC_its hx18) tG_its tI_its ⟨Nat.le_of_ble_eq_true rfl, Nat.le_of_ble_eq_true rfl⟩ ⟨Nat.zero_le _, Nat.zero_le _⟩ 0 rfl rfl rfl rfl (Nat.le_of_ble_eq_true rfl) dX6_canBe_102 ?_
          refine tw_aload_n X dX6_canBe_105 rfl 2 rfl ?_
          refine tw_iload_n X dX6_canBe_106 rfl 0 rfl ?_
          refine tw_iconst (v := 2) X dX6_canBe_107 rfl ?_
          obtain ⟨x19, hx19, hf⟩ := bnd hf
          refine tw_callVi (As := [.int x2, .int (2 : Int32)]) (st := [.int x18]) X (tC_its hx19) tG_its tI_its ⟨Nat.le_of_ble_eq_true rfl, Nat.le_of_ble_eq_true rfl⟩ ⟨Nat.zero_le _, Nat.zero_le _⟩ 0 rfl rfl rfl rfl (Nat.le_of_ble_eq_true rfl) dX6_canBe_108 ?_
          refine tw_icmp_eq (tgt := 129) X dX6_canBe_111 rfl hf (fun q23 hf => ?_) (fun q23 hf => ?_)
          · clear q23
            refine tw_iconst (v := 1) X dX6_canBe_129 rfl ?_
            refine tw_goto (tgt := 134) X dX6_canBe_130 rfl ?_
            exact tw_zret X hr (Or.inr rfl) (prj1 hf) (prj2 hf) dX6_canBe_134
          · clear q23
            refine tw_aload_n X dX6_canBe_114 rfl 2 rfl ?_
            refine tw_iload_n X dX6_canBe_115 rfl 0 rfl ?_
            refine tw_iconst (v := 1) X dX6_canBe_116 rfl ?_
            obtain ⟨x20, hx20, hf⟩ := bnd hf
            refine tw_callVi (As := [.int x2, .int (1 : Int32)]) (st := []) X (tC_its hx20) tG_its tI_its ⟨Nat.le_of_ble_eq_true rfl, Nat.le_of_ble_eq_true rfl⟩ ⟨Nat.zero_le _, Nat.zero_le _⟩ 0 rfl rfl rfl rfl (Nat.le_of_ble_eq_true rfl) dX6_canBe_117 ?_
            refine tw_aload_n X dX6_canBe_120 rfl 2 rfl ?_
            refine tw_iload_n X dX6_canBe_121 rfl 1 rfl ?_
            refine tw_iconst (v := 2) X dX6_canBe_122 rfl ?_
            obtain ⟨x21, hx21, hf⟩ := bnd hf
            refine tw_callVi (As := [.int x1, .int (2 : Int32)]) (st := [.int x20]) X (tC_its hx21) tG_its tI_its ⟨Nat.le_of_ble_eq_true rfl, Nat.le_of_ble_eq_true rfl⟩ ⟨Nat.zero_le _, Nat.zero_le _⟩ 0 rfl rfl rfl rfl (Nat.le_of_ble_eq_true rfl) dX6_canBe_123 ?_
            refine tw_icmp_ne (tgt := 133) X dX6_canBe_126 rfl hf (fun q22 hf => ?_) (fun q22 hf => ?_)
            · clear q22
              refine tw_iconst (v := 1) X dX6_canBe_129 rfl ?_
              refine tw_goto (tgt := 134) X dX6_canBe_130 rfl ?_
              exact tw_zret X hr (Or.inr rfl) (prj1 hf) (prj2 hf) dX6_canBe_134
            · clear q22
              refine tw_iconst (v := 0) X dX6_canBe_133 rfl ?_
              exact tw_zret X hr (Or.inl rfl) (prj1 hf) (prj2 hf) dX6_canBe_134
noncomputable def tF_does (g : St) (a1 : Int32) : Option (St) :=
  (dv a1 (10 : Int32)).bind fun x1 =>
  (rm a1 (10 : Int32)).bind fun x2 =>
  (tF_its g x1 (1 : Int32)).bind fun x3 =>
  (pf g 0 6 x3).bind fun g4 =>
  (pf g4 0 7 (0 : Int32)).bind fun g5 =>
  if x2 = (9 : Int32) then
    (tF_asked g5 x1).bind (un2 fun y6a y6b =>
    (pf y6b 0 7 y6a).bind fun g7 =>
    (rd (g7 1) 340 ((14 : Int32) + (g7 0 6))).bind fun x8 =>
    (wr g7 1 340 ((14 : Int32) + (g7 0 6)) (x8 + (1 : Int32))).bind fun g9 =>
    (tF_its g9 x1 (2 : Int32)).bind fun x10 =>
    (rd (g9 1) 340 ((14 : Int32) + x10)).bind fun x11 =>
    (wr g9 1 340 ((14 : Int32) + x10) (x11 - (1 : Int32))).bind fun g12 =>
    (tF_its g12 x1 (2 : Int32)).bind fun x13 =>
    (wr g12 1 340 (tF_at x1 (1 : Int32)) x13).bind fun g14 =>
    (rd (g14 1) 340 (tF_at x1 (3 : Int32))).bind fun x15 =>
    (wr g14 1 340 (tF_at x1 (3 : Int32)) (x15 - (g14 0 7))).bind fun g16 =>
    some g16)
  else
    (tF_swaps g5 x1 x2).bind fun g17 =>
    some g17
set_option maxHeartbeats 4000000 in
theorem tC_does {l : Launch} {D : va_G} {A : Nat → Prop} {o : Nat} {ad : Nat → Nat} {dI : ClassId} {g : St} {a1 : Int32} {z : St} (hf : tF_does g a1 = some z) : Ct l yX6_does cX6_does 4 none 7 162 D vwCl [(dI, .int)] A (tW o ad dI) [.ref o, .int a1] g (QV D vwCl A (tW o ad dI) z) := by
  unfold tF_does at hf
  refine ct_intro (own := RX6) (lv0 := [(0, .ref o), (1, .int a1)]) (by decide) rfl (Nat.le_of_ble_eq_true rfl) rfl ?_
  intro p e s m args below meth c X hr
  refine tw_iload_n X dX6_does_0 rfl 1 rfl ?_
  refine tw_bipush (v := 10) X dX6_does_1 rfl ?_
  obtain ⟨x1, hx1, hf⟩ := bnd hf
  refine tw_idivV X dX6_does_3 hx1 ?_
  refine tw_istore_n (lv' := [(2, .int x1), (0, .ref o), (1, .int a1)]) X dX6_does_4 rfl (by decide) rfl ?_
  refine tw_iload_n X dX6_does_5 rfl 2 rfl ?_
  refine tw_bipush (v := 10) X dX6_does_6 rfl ?_
  obtain ⟨x2, hx2, hf⟩ := bnd hf
  refine tw_iremV X dX6_does_8 hx2 ?_
  refine tw_istore_n (lv' := [(3, .int x2), (2, .int x1), (0, .ref o), (1, .int a1)]) X dX6_does_9 rfl (by decide) rfl ?_
  refine tw_aload_n X dX6_does_10 rfl 2 rfl ?_
  refine tw_aload_n X dX6_does_11 rfl 2 rfl ?_
  refine tw_iload_n X dX6_does_12 rfl 1 rfl ?_
  refine tw_iconst (v := 1) X dX6_does_13 rfl ?_
  obtain ⟨x3, hx3, hf⟩ := bnd hf
  refine tw_callVi (As := [.int x1, .int (1 : Int32)]) (st := [.ref o]) X (tC_its hx3) tG_its tI_its ⟨Nat.le_of_ble_eq_true rfl, Nat.le_of_ble_eq_true rfl⟩ ⟨Nat.zero_le _, Nat.zero_le _⟩ 0 rfl rfl rfl rfl (Nat.le_of_ble_eq_true rfl) dX6_does_14 ?_
  obtain ⟨g4, hg4, hf⟩ := bnd hf
  refine tp_gave X hg4 dX6_does_17 ?_
  refine tw_aload_n X dX6_does_20 rfl 2 rfl ?_
  refine tw_iconst (v := 0) X dX6_does_21 rfl ?_
  obtain ⟨g5, hg5, hf⟩ := bnd hf
  refine tp_paid X hg5 dX6_does_22 ?_
  refine tw_iload_n X dX6_does_25 rfl 0 rfl ?_
  refine tw_bipush (v := 9) X dX6_does_26 rfl ?_
  refine tw_icmp_ne (tgt := 110) X dX6_does_28 rfl hf (fun q18 hf => ?_) (fun q18 hf => ?_)
  · clear q18
    refine tw_aload_n X dX6_does_31 rfl 2 rfl ?_
    refine tw_aload_n X dX6_does_32 rfl 2 rfl ?_
    refine tw_iload_n X dX6_does_33 rfl 1 rfl ?_
    obtain ⟨⟨y6a, y6b⟩, hy6, hf⟩ := bnd hf
    dsimp only [un2] at hf
    refine tw_callVi (As := [.int x1]) (st := [.ref o]) X (tC_asked hy6) tG_asked tI_asked ⟨Nat.le_of_ble_eq_true rfl, Nat.le_of_ble_eq_true rfl⟩ ⟨Nat.zero_le _, Nat.zero_le _⟩ 0 rfl rfl rfl rfl (Nat.le_of_ble_eq_true rfl) dX6_does_34 ?_
    obtain ⟨g7, hg7, hf⟩ := bnd hf
    refine tp_paid X hg7 dX6_does_37 ?_
    refine tw_aload_n X dX6_does_40 rfl 2 rfl ?_
    refine tg_s X  dX6_does_41 ?_
    refine tw_bipush (v := 14) X dX6_does_44 rfl ?_
    refine tw_aload_n X dX6_does_46 rfl 2 rfl ?_
    refine tg_gave X  dX6_does_47 ?_
    refine tw_iadd X dX6_does_50 ?_
    refine tw_dup2_11 X dX6_does_51 rfl rfl ?_
    obtain ⟨x8, hx8, hf⟩ := bnd hf
    refine ta_s X hx8 dX6_does_52 ?_
    refine tw_iconst (v := 1) X dX6_does_53 rfl ?_
    refine tw_iadd X dX6_does_54 ?_
    obtain ⟨g9, hg9, hf⟩ := bnd hf
    refine ts_s X hg9 dX6_does_55 ?_
    refine tw_aload_n X dX6_does_56 rfl 2 rfl ?_
    refine tg_s X  dX6_does_57 ?_
    refine tw_bipush (v := 14) X dX6_does_60 rfl ?_
    refine tw_aload_n X dX6_does_62 rfl 2 rfl ?_
    refine tw_iload_n X dX6_does_63 rfl 1 rfl ?_
    refine tw_iconst (v := 2) X dX6_does_64 rfl ?_
    obtain ⟨x10, hx10, hf⟩ := bnd hf
    refine tw_callVi (As := [.int x1, .int (2 : Int32)]) (st := [.int (14 : Int32), .ref (ad 0)]) X (tC_its hx10) tG_its tI_its ⟨Nat.le_of_ble_eq_true rfl, Nat.le_of_ble_eq_true rfl⟩ ⟨Nat.zero_le _, Nat.zero_le _⟩ 0 rfl rfl rfl rfl (Nat.le_of_ble_eq_true rfl) dX6_does_65 ?_
    refine tw_iadd X dX6_does_68 ?_
    refine tw_dup2_11 X dX6_does_69 rfl rfl ?_
    obtain ⟨x11, hx11, hf⟩ := bnd hf
    refine ta_s X hx11 dX6_does_70 ?_
    refine tw_iconst (v := 1) X dX6_does_71 rfl ?_
    refine tw_isub X dX6_does_72 ?_
    obtain ⟨g12, hg12, hf⟩ := bnd hf
    refine ts_s X hg12 dX6_does_73 ?_
    refine tw_aload_n X dX6_does_74 rfl 2 rfl ?_
    refine tg_s X  dX6_does_75 ?_
    refine tw_iload_n X dX6_does_78 rfl 1 rfl ?_
    refine tw_iconst (v := 1) X dX6_does_79 rfl ?_
    refine tw_callSi (As := [.int x1, .int (1 : Int32)]) (st := [.ref (ad 0)]) X (tC_at (g := g12) x1 (1 : Int32)) tG_at tI_at ⟨Nat.le_of_ble_eq_true rfl, Nat.le_of_ble_eq_true rfl⟩ ⟨Nat.zero_le _, Nat.zero_le _⟩ rfl rfl (Nat.le_of_ble_eq_true rfl) dX6_does_80 ?_
    refine tw_aload_n X dX6_does_83 rfl 2 rfl ?_
    refine tw_iload_n X dX6_does_84 rfl 1 rfl ?_
    refine tw_iconst (v := 2) X dX6_does_85 rfl ?_
    obtain ⟨x13, hx13, hf⟩ := bnd hf
    refine tw_callVi (As := [.int x1, .int (2 : Int32)]) (st := [.int (tF_at x1 (1 : Int32)), .ref (ad 0)]) X (tC_its hx13) tG_its tI_its ⟨Nat.le_of_ble_eq_true rfl, Nat.le_of_ble_eq_true rfl⟩ ⟨Nat.zero_le _, Nat.zero_le _⟩ 0 rfl rfl rfl rfl (Nat.le_of_ble_eq_true rfl) dX6_does_86 ?_
    obtain ⟨g14, hg14, hf⟩ := bnd hf
    refine ts_s X hg14 dX6_does_89 ?_
    refine tw_aload_n X dX6_does_90 rfl 2 rfl ?_
    refine tg_s X  dX6_does_91 ?_
    refine tw_iload_n X dX6_does_94 rfl 1 rfl ?_
    refine tw_iconst (v := 3) X dX6_does_95 rfl ?_
    refine tw_callSi (As := [.int x1, .int (3 : Int32)]) (st := [.ref (ad 0)]) X (tC_at (g := g14) x1 (3 : Int32)) tG_at tI_at ⟨Nat.le_of_ble_eq_true rfl, Nat.le_of_ble_eq_true rfl⟩ ⟨Nat.zero_le _, Nat.zero_le _⟩ rfl rfl (Nat.le_of_ble_eq_true rfl) dX6_does_96 ?_
    refine tw_dup2_11 X dX6_does_99 rfl rfl ?_
    obtain ⟨x15, hx15, hf⟩ := bnd hf
    refine ta_s X hx15 dX6_does_100 ?_
    refine tw_aload_n X dX6_does_101 rfl 2 rfl ?_
    refine tg_paid X  dX6_does_102 ?_
    refine tw_isub X dX6_does_105 ?_
    obtain ⟨g16, hg16, hf⟩ := bnd hf
    refine ts_s X hg16 dX6_does_106 ?_
    refine tw_goto (tgt := 116) X dX6_does_107 rfl ?_
    exact tw_vret X hr (Option.some.inj hf) dX6_does_116
  · clear q18
    refine tw_aload_n X dX6_does_110 rfl 2 rfl ?_
    refine tw_iload_n X dX6_does_111 rfl 1 rfl ?_
    refine tw_iload_n X dX6_does_112 rfl 0 rfl ?_
    obtain ⟨g17, hg17, hf⟩ := bnd hf
    refine tw_callVv (As := [.int x1, .int x2]) (st := []) X (tC_swaps hg17) tG_swaps tI_swaps ⟨Nat.le_of_ble_eq_true rfl, Nat.le_of_ble_eq_true rfl⟩ ⟨Nat.zero_le _, Nat.zero_le _⟩ 0 rfl rfl rfl rfl (Nat.le_of_ble_eq_true rfl) dX6_does_113 ?_
    exact tw_vret X hr (Option.some.inj hf) dX6_does_116
noncomputable def tF_valueBy (rc : St → Int32 → Option (Int32 × St)) (g : St) (a1 : Int32) (a2 : Int32) : Option (Int32 × St) :=
  (tF_does g a1).bind fun g1 =>
  (rc g1 (a2 - (1 : Int32))).bind (un2 fun y2a y2b =>
  (tF_undoes y2b a1 (g1 0 6) (g1 0 7)).bind fun g3 =>
  some ((tF_turned y2a), g3))
set_option maxHeartbeats 4000000 in
theorem tC_valueBy {l : Launch} {D : va_G} {A : Nat → Prop} {o : Nat} {ad : Nat → Nat} {dI : ClassId} {F Lo : Nat} {rc : St → Int32 → Option (Int32 × St)} (hrec : ∀ (g : St) (b0 : Int32) (z : Int32 × St), rc g b0 = some z → Ct l yX6_valueOf cX6_valueOf 5 (some .int) F Lo D vwCl [(dI, .int)] A (tW o ad dI) [.ref o, .int b0] g (QI D vwCl A (tW o ad dI) z.1 z.2)) {g : St} {a1 : Int32} {a2 : Int32} {z : Int32 × St} (hf : tF_valueBy rc g a1 a2 = some z) : Ct l yX6_valueBy cX6_valueBy 6 (some .int) (F + 8) (Lo + 185) D vwCl [(dI, .int)] A (tW o ad dI) [.ref o, .int a1, .int a2] g (QI D vwCl A (tW o ad dI) z.1 z.2) := by
  unfold tF_valueBy at hf
  refine ct_intro (own := RX6) (lv0 := [(0, .ref o), (1, .int a1), (2, .int a2)]) (by decide) rfl (Nat.le_of_ble_eq_true rfl) rfl ?_
  intro p e s m args below meth c X hr
  refine tw_aload_n X dX6_valueBy_0 rfl 0 rfl ?_
  refine tw_iload_n X dX6_valueBy_1 rfl 1 rfl ?_
  obtain ⟨g1, hg1, hf⟩ := bnd hf
  refine tw_callVv (As := [.int a1]) (st := []) X (tC_does hg1) tG_does tI_does (rom_le (by omega) (by omega)) ⟨Nat.zero_le _, Nat.zero_le _⟩ 0 rfl rfl rfl rfl (Nat.le_of_ble_eq_true rfl) dX6_valueBy_2 ?_
  refine tw_aload_n X dX6_valueBy_5 rfl 0 rfl ?_
  refine tg_gave X  dX6_valueBy_6 ?_
  refine tw_istore_n (lv' := [(3, .int (g1 0 6)), (0, .ref o), (1, .int a1), (2, .int a2)]) X dX6_valueBy_9 rfl (by decide) rfl ?_
  refine tw_aload_n X dX6_valueBy_10 rfl 1 rfl ?_
  refine tg_paid X  dX6_valueBy_11 ?_
  refine tw_istore (lv' := [(4, .int (g1 0 7)), (3, .int (g1 0 6)), (0, .ref o), (1, .int a1), (2, .int a2)]) X dX6_valueBy_14 (by decide) rfl ?_
  refine tw_aload_n X dX6_valueBy_16 rfl 2 rfl ?_
  refine tw_iload_n X dX6_valueBy_17 rfl 4 rfl ?_
  refine tw_iconst (v := 1) X dX6_valueBy_18 rfl ?_
  refine tw_isub X dX6_valueBy_19 ?_
  obtain ⟨⟨y2a, y2b⟩, hy2, hf⟩ := bnd hf
  dsimp only [un2] at hf
  refine tw_callVi (As := [.int (a2 - (1 : Int32))]) (st := []) X (hrec _ _ _ hy2) tG_valueOf tI_valueOf (rom_le (by omega) (by omega)) ⟨Nat.zero_le _, Nat.zero_le _⟩ 0 rfl rfl rfl rfl (Nat.le_of_ble_eq_true rfl) dX6_valueBy_20 ?_
  refine tw_callSi (As := [.int y2a]) (st := []) X (tC_turned (g := y2b) y2a) tG_turned tI_turned (rom_le (by omega) (by omega)) ⟨Nat.zero_le _, Nat.zero_le _⟩ rfl rfl (Nat.le_of_ble_eq_true rfl) dX6_valueBy_23 ?_
  refine tw_istore (lv' := [(5, .int (tF_turned y2a)), (4, .int (g1 0 7)), (3, .int (g1 0 6)), (0, .ref o), (1, .int a1), (2, .int a2)]) X dX6_valueBy_26 (by decide) rfl ?_
  refine tw_aload_n X dX6_valueBy_28 rfl 3 rfl ?_
  refine tw_iload_n X dX6_valueBy_29 rfl 4 rfl ?_
  refine tw_iload_n X dX6_valueBy_30 rfl 2 rfl ?_
  refine tw_iload X dX6_valueBy_31 1 rfl ?_
  obtain ⟨g3, hg3, hf⟩ := bnd hf
  refine tw_callVv (As := [.int a1, .int (g1 0 6), .int (g1 0 7)]) (st := []) X (tC_undoes hg3) tG_undoes tI_undoes (rom_le (by omega) (by omega)) ⟨Nat.zero_le _, Nat.zero_le _⟩ 0 rfl rfl rfl rfl (Nat.le_of_ble_eq_true rfl) dX6_valueBy_33 ?_
  refine tw_iload X dX6_valueBy_36 0 rfl ?_
  exact tw_iret X hr (prj1 hf) (prj2 hf) dX6_valueBy_38
noncomputable def tF_judge (g : St) : Option (Int32 × St) :=
  (tF_puts g).bind fun g1 =>
  Option.bind (α := St × Int32) (β := Int32 × St)
    (iter (L := St × Int32 × Int32) (T := St × Int32) (un3 fun s5a s5b s5c => 
      if (s5a 0 24) ≤ s5c then
        some (.inr (s5a, s5b))
      else
        if s5b = 0 then
          (rd (s5a 24) 18 ((3 : Int32) * s5c)).bind fun x8 =>
          (tF_isNumber s5a x8).bind fun x9 =>
          Option.bind (α := St × Int32) (β := ((St × Int32 × Int32) ⊕ (St × Int32)))
            (if x9 = 0 then
              some (s5a, (0 : Int32))
            else
              (rd (s5a 24) 18 ((3 : Int32) * s5c)).bind fun x37 =>
              (tF_canBe s5a x37).bind (un2 fun y38a y38b =>
              if y38a = 0 then
                some (y38b, (0 : Int32))
              else
                some (y38b, (1 : Int32))))
            (un2 fun j11a j11b => Option.bind (α := St × Int32) (β := ((St × Int32 × Int32) ⊕ (St × Int32)))
              (if j11b = 0 then
                some (j11a, j11b)
              else
                (rd (j11a 24) 18 ((3 : Int32) * s5c)).bind fun x16 =>
                (tF_does j11a x16).bind fun g17 =>
                (rd (g17 24) 18 (((3 : Int32) * s5c) + (1 : Int32))).bind fun x18 =>
                (tF_coinsAll g17).bind fun x19 =>
                Option.bind (α := Int32) (β := St × Int32)
                  (if x18 = x19 then
                    (rd (g17 24) 18 (((3 : Int32) * s5c) + (2 : Int32))).bind fun x22 =>
                    (tF_wholeSet g17).bind fun x23 =>
                    if x22 = x23 then
                      jn (S := Unit) (T := Int32)
                        (if s5c < ((g17 0 24) - (1 : Int32)) then
                          some (.inl ())
                        else
                          (tF_wholeSet g17).bind fun x26 =>
                          (tF_thereSet g17).bind fun x27 =>
                          if x26 = x27 then
                            some (.inl ())
                          else
                            some (.inr (0 : Int32)))
                        (fun j24 => some (1 : Int32))
                    else
                      some (0 : Int32)
                  else
                    some (0 : Int32))
                  (fun j20 => some (g17, j20)))
              (un2 fun j13a j13b => if j13b = 0 then
                some (.inl (j13a, (s5c + (1 : Int32)), (s5c + (1 : Int32))))
              else
                some (.inl (j13a, (0 : Int32), (s5c + (1 : Int32))))))
        else
          some (.inr (s5a, s5b))) (g1, (0 : Int32), (0 : Int32)))
    (un2 fun j2a j2b => (tF_putsBack j2a).bind fun g4 =>
    some (j2b, g4))
set_option maxHeartbeats 4000000 in
theorem tC_judge {l : Launch} {D : va_G} {A : Nat → Prop} {o : Nat} {ad : Nat → Nat} {dI : ClassId} {g : St} {z : Int32 × St} (hf : tF_judge g = some z) : Ct l yX6_judge cX6_judge 4 (some .int) 8 185 D vwCl [(dI, .int)] A (tW o ad dI) [.ref o] g (QI D vwCl A (tW o ad dI) z.1 z.2) := by
  unfold tF_judge at hf
  refine ct_intro (own := RX6) (lv0 := [(0, .ref o)]) (by decide) rfl (Nat.le_of_ble_eq_true rfl) rfl ?_
  intro p e s m args below meth c X hr
  refine tw_aload_n X dX6_judge_0 rfl 0 rfl ?_
  obtain ⟨g1, hg1, hf⟩ := bnd hf
  refine tw_callVv (As := []) (st := []) X (tC_puts hg1) tG_puts tI_puts ⟨Nat.le_of_ble_eq_true rfl, Nat.le_of_ble_eq_true rfl⟩ ⟨Nat.zero_le _, Nat.zero_le _⟩ 0 rfl rfl rfl rfl (Nat.le_of_ble_eq_true rfl) dX6_judge_1 ?_
  refine tw_iconst (v := 0) X dX6_judge_4 rfl ?_
  refine tw_istore_n (lv' := [(1, .int (0 : Int32)), (0, .ref o)]) X dX6_judge_5 rfl (by decide) rfl ?_
  refine tw_iconst (v := 0) X dX6_judge_6 rfl ?_
  refine tw_istore_n (lv' := [(2, .int (0 : Int32)), (1, .int (0 : Int32)), (0, .ref o)]) X dX6_judge_7 rfl (by decide) rfl ?_
  refine bj_walk (P := un2 fun j2a j2b => TW p l e (rom 8 185) s m args below meth c (MQ below (QI D vwCl A (tW o ad dI) z.1 z.2) args s 0 0 A) D vwCl A (tW o ad dI) 4 0 0 j2a 151 [(0, .ref o), (1, .int j2b)] []) hf ?_ ?_
  · rintro ⟨j2a, j2b⟩ hf
    dsimp only [un2] at hf ⊢
    refine tw_aload_n X dX6_judge_151 rfl 0 rfl ?_
    obtain ⟨g4, hg4, hf⟩ := bnd hf
    refine tw_callVv (As := []) (st := []) X (tC_putsBack hg4) tG_putsBack tI_putsBack ⟨Nat.le_of_ble_eq_true rfl, Nat.le_of_ble_eq_true rfl⟩ ⟨Nat.zero_le _, Nat.zero_le _⟩ 0 rfl rfl rfl rfl (Nat.le_of_ble_eq_true rfl) dX6_judge_152 ?_
    refine tw_iload_n X dX6_judge_155 rfl 1 rfl ?_
    exact tw_iret X hr (prj1 hf) (prj2 hf) dX6_judge_156
  · intro zz47 hf hk3
    refine tw_sub [2, 1, 0] (lv' := [(0, .ref o), (1, .int (0 : Int32)), (2, .int (0 : Int32))]) rfl ?_
    refine it_walk (P := un3 fun s5a s5b s5c => TW p l e (rom 8 185) s m args below meth c (MQ below (QI D vwCl A (tW o ad dI) z.1 z.2) args s 0 0 A) D vwCl A (tW o ad dI) 4 0 0 s5a 8 [(0, .ref o), (1, .int s5b), (2, .int s5c)] []) hf ?_
    rintro ⟨s5a, s5b, s5c⟩ zz46 hf hl6
    dsimp only [un3] at hf ⊢
    refine tw_iload_n X dX6_judge_8 rfl 2 rfl ?_
    refine tw_aload_n X dX6_judge_9 rfl 0 rfl ?_
    refine tg_rowMany X  dX6_judge_10 ?_
    refine tw_icmp_ge (tgt := 151) X dX6_judge_13 rfl hf (fun q45 hf => ?_) (fun q45 hf => ?_)
    · clear q45
      have hf7 := leafR hf hl6
      refine tw_sub [0, 1] (lv' := [(0, .ref o), (1, .int s5b)]) rfl ?_
      have hL := hk3 _ hf7
      exact hL
    · clear q45
      refine tw_iload_n X dX6_judge_16 rfl 1 rfl ?_
      refine tw_if_ne (tgt := 151) X dX6_judge_17 rfl hf (fun q44 hf => ?_) (fun q44 hf => ?_)
      · clear q44
        refine tw_aload_n X dX6_judge_20 rfl 0 rfl ?_
        refine tw_aload_n X dX6_judge_21 rfl 0 rfl ?_
        refine tg_rows X  dX6_judge_22 ?_
        refine tw_iconst (v := 3) X dX6_judge_25 rfl ?_
        refine tw_iload_n X dX6_judge_26 rfl 2 rfl ?_
        refine tw_imul X dX6_judge_27 ?_
        obtain ⟨x8, hx8, hf⟩ := bnd hf
        refine ta_rows X hx8 dX6_judge_28 ?_
        obtain ⟨x9, hx9, hf⟩ := bnd hf
        refine tw_callVz (As := [.int x8]) (st := []) X (tC_isNumber hx9) tG_isNumber tI_isNumber ⟨Nat.le_of_ble_eq_true rfl, Nat.le_of_ble_eq_true rfl⟩ ⟨Nat.zero_le _, Nat.zero_le _⟩ 0 rfl rfl rfl rfl (Nat.le_of_ble_eq_true rfl) dX6_judge_29 ?_
        intro hb10
        refine bj_walk (P := un2 fun j11a j11b => TW p l e (rom 8 185) s m args below meth c (MQ below (QI D vwCl A (tW o ad dI) z.1 z.2) args s 0 0 A) D vwCl A (tW o ad dI) 4 0 0 j11a 55 [(0, .ref o), (2, .int s5c)] [.int j11b]) hf ?_ ?_
        · rintro ⟨j11a, j11b⟩ hf
          dsimp only [un2] at hf ⊢
          refine tw_istore_n (lv' := [(3, .int j11b), (0, .ref o), (2, .int s5c)]) X dX6_judge_55 rfl (by decide) rfl ?_
          refine tw_iload_n X dX6_judge_56 rfl 0 rfl ?_
          refine bj_walk (P := un2 fun j13a j13b => TW p l e (rom 8 185) s m args below meth c (MQ below (QI D vwCl A (tW o ad dI) z.1 z.2) args s 0 0 A) D vwCl A (tW o ad dI) 4 0 0 j13a 133 [(0, .ref o), (2, .int s5c), (3, .int j13b)] []) hf ?_ ?_
          · rintro ⟨j13a, j13b⟩ hf
            dsimp only [un2] at hf ⊢
            refine tw_iload_n X dX6_judge_133 rfl 2 rfl ?_
            refine tw_if_eq (tgt := 141) X dX6_judge_134 rfl hf (fun q15 hf => ?_) (fun q15 hf => ?_)
            · clear q15
              refine tw_iload_n X dX6_judge_141 rfl 1 rfl ?_
              refine tw_iconst (v := 1) X dX6_judge_142 rfl ?_
              refine tw_iadd X dX6_judge_143 ?_
              refine tw_istore_n (lv' := [(1, .int (s5c + (1 : Int32))), (0, .ref o), (2, .int s5c), (3, .int j13b)]) X dX6_judge_144 rfl (by decide) rfl ?_
              refine tw_iinc (q := 2) (v := (s5c + (1 : Int32))) (lv' := [(2, .int (s5c + (1 : Int32))), (1, .int (s5c + (1 : Int32))), (0, .ref o), (3, .int j13b)]) X dX6_judge_145 rfl rfl (by decide) rfl ?_
              refine tw_goto (tgt := 8) X dX6_judge_148 rfl ?_
              refine tw_sub [2, 1, 0] (lv' := [(0, .ref o), (1, .int (s5c + (1 : Int32))), (2, .int (s5c + (1 : Int32)))]) rfl ?_
              have hL := leafL hf hl6
              exact hL
            · clear q15
              refine tw_iconst (v := 0) X dX6_judge_137 rfl ?_
              refine tw_goto (tgt := 144) X dX6_judge_138 rfl ?_
              refine tw_istore_n (lv' := [(1, .int (0 : Int32)), (0, .ref o), (2, .int s5c), (3, .int j13b)]) X dX6_judge_144 rfl (by decide) rfl ?_
              refine tw_iinc (q := 2) (v := (s5c + (1 : Int32))) (lv' := [(2, .int (s5c + (1 : Int32))), (1, .int (0 : Int32)), (0, .ref o), (3, .int j13b)]) X dX6_judge_145 rfl rfl (by decide) rfl ?_
              refine tw_goto (tgt := 8) X dX6_judge_148 rfl ?_
              refine tw_sub [2, 1, 0] (lv' := [(0, .ref o), (1, .int (0 : Int32)), (2, .int (s5c + (1 : Int32)))]) rfl ?_
              have hL := leafL hf hl6
              exact hL
          · intro zz36 hf hk14
            refine tw_if_eq (tgt := 133) X dX6_judge_57 rfl hf (fun q35 hf => ?_) (fun q35 hf => ?_)
            · clear q35
              refine tw_sub [1, 2, 0] (lv' := [(0, .ref o), (2, .int s5c), (3, .int j11b)]) rfl ?_
              have hL := hk14 _ hf
              exact hL
            · clear q35
              refine tw_aload_n X dX6_judge_60 rfl 1 rfl ?_
              refine tw_aload_n X dX6_judge_61 rfl 1 rfl ?_
              refine tg_rows X  dX6_judge_62 ?_
              refine tw_iconst (v := 3) X dX6_judge_65 rfl ?_
              refine tw_iload_n X dX6_judge_66 rfl 2 rfl ?_
              refine tw_imul X dX6_judge_67 ?_
              obtain ⟨x16, hx16, hf⟩ := bnd hf
              refine ta_rows X hx16 dX6_judge_68 ?_
              obtain ⟨g17, hg17, hf⟩ := bnd hf
              refine tw_callVv (As := [.int x16]) (st := []) X (tC_does hg17) tG_does tI_does ⟨Nat.le_of_ble_eq_true rfl, Nat.le_of_ble_eq_true rfl⟩ ⟨Nat.zero_le _, Nat.zero_le _⟩ 0 rfl rfl rfl rfl (Nat.le_of_ble_eq_true rfl) dX6_judge_69 ?_
              refine tw_aload_n X dX6_judge_72 rfl 1 rfl ?_
              refine tg_rows X  dX6_judge_73 ?_
              refine tw_iconst (v := 3) X dX6_judge_76 rfl ?_
              refine tw_iload_n X dX6_judge_77 rfl 2 rfl ?_
              refine tw_imul X dX6_judge_78 ?_
              refine tw_iconst (v := 1) X dX6_judge_79 rfl ?_
              refine tw_iadd X dX6_judge_80 ?_
              obtain ⟨x18, hx18, hf⟩ := bnd hf
              refine ta_rows X hx18 dX6_judge_81 ?_
              refine tw_aload_n X dX6_judge_82 rfl 1 rfl ?_
              obtain ⟨x19, hx19, hf⟩ := bnd hf
              refine tw_callVi (As := []) (st := [.int x18]) X (tC_coinsAll hx19) tG_coinsAll tI_coinsAll ⟨Nat.le_of_ble_eq_true rfl, Nat.le_of_ble_eq_true rfl⟩ ⟨Nat.zero_le _, Nat.zero_le _⟩ 0 rfl rfl rfl rfl (Nat.le_of_ble_eq_true rfl) dX6_judge_83 ?_
              refine bj_walk (P := fun j20 : Int32 => TW p l e (rom 8 185) s m args below meth c (MQ below (QI D vwCl A (tW o ad dI) z.1 z.2) args s 0 0 A) D vwCl A (tW o ad dI) 4 0 0 g17 132 [(0, .ref o), (2, .int s5c)] [.int j20]) hf ?_ ?_
              · intro j20 hf
                refine tw_istore_n (lv' := [(3, .int j20), (0, .ref o), (2, .int s5c)]) X dX6_judge_132 rfl (by decide) rfl ?_
                refine tw_sub [1, 2, 0] (lv' := [(0, .ref o), (2, .int s5c), (3, .int j20)]) rfl ?_
                have hL := hk14 _ hf
                exact hL
              · intro zz34 hf hk21
                refine tw_icmp_ne (tgt := 131) X dX6_judge_86 rfl hf (fun q33 hf => ?_) (fun q33 hf => ?_)
                · clear q33
                  refine tw_aload_n X dX6_judge_89 rfl 1 rfl ?_
                  refine tg_rows X  dX6_judge_90 ?_
                  refine tw_iconst (v := 3) X dX6_judge_93 rfl ?_
                  refine tw_iload_n X dX6_judge_94 rfl 2 rfl ?_
                  refine tw_imul X dX6_judge_95 ?_
                  refine tw_iconst (v := 2) X dX6_judge_96 rfl ?_
                  refine tw_iadd X dX6_judge_97 ?_
                  obtain ⟨x22, hx22, hf⟩ := bnd hf
                  refine ta_rows X hx22 dX6_judge_98 ?_
                  refine tw_aload_n X dX6_judge_99 rfl 1 rfl ?_
                  obtain ⟨x23, hx23, hf⟩ := bnd hf
                  refine tw_callVi (As := []) (st := [.int x22]) X (tC_wholeSet hx23) tG_wholeSet tI_wholeSet ⟨Nat.le_of_ble_eq_true rfl, Nat.le_of_ble_eq_true rfl⟩ ⟨Nat.zero_le _, Nat.zero_le _⟩ 0 rfl rfl rfl rfl (Nat.le_of_ble_eq_true rfl) dX6_judge_100 ?_
                  refine tw_icmp_ne (tgt := 131) X dX6_judge_103 rfl hf (fun q32 hf => ?_) (fun q32 hf => ?_)
                  · clear q32
                    refine tw_iload_n X dX6_judge_106 rfl 2 rfl ?_
                    refine tw_aload_n X dX6_judge_107 rfl 1 rfl ?_
                    refine tg_rowMany X  dX6_judge_108 ?_
                    refine tw_iconst (v := 1) X dX6_judge_111 rfl ?_
                    refine tw_isub X dX6_judge_112 ?_
                    refine jn_walk (P := fun j24 : Unit => TW p l e (rom 8 185) s m args below meth c (MQ below (QI D vwCl A (tW o ad dI) z.1 z.2) args s 0 0 A) D vwCl A (tW o ad dI) 4 0 0 g17 127 [(0, .ref o), (2, .int s5c)] []) hf ?_ ?_
                    · intro j24 hf
                      refine tw_iconst (v := 1) X dX6_judge_127 rfl ?_
                      refine tw_goto (tgt := 132) X dX6_judge_128 rfl ?_
                      have hL := hk21 _ hf
                      exact hL
                    · intro zz31 hf hk25
                      refine tw_icmp_lt (tgt := 127) X dX6_judge_113 rfl hf (fun q30 hf => ?_) (fun q30 hf => ?_)
                      · clear q30
                        refine tw_sub [1, 2] (lv' := [(0, .ref o), (2, .int s5c)]) rfl ?_
                        have hL := leafL hf hk25
                        exact hL
                      · clear q30
                        refine tw_aload_n X dX6_judge_116 rfl 1 rfl ?_
                        obtain ⟨x26, hx26, hf⟩ := bnd hf
                        refine tw_callVi (As := []) (st := []) X (tC_wholeSet hx26) tG_wholeSet tI_wholeSet ⟨Nat.le_of_ble_eq_true rfl, Nat.le_of_ble_eq_true rfl⟩ ⟨Nat.zero_le _, Nat.zero_le _⟩ 0 rfl rfl rfl rfl (Nat.le_of_ble_eq_true rfl) dX6_judge_117 ?_
                        refine tw_aload_n X dX6_judge_120 rfl 1 rfl ?_
                        obtain ⟨x27, hx27, hf⟩ := bnd hf
                        refine tw_callVi (As := []) (st := [.int x26]) X (tC_thereSet hx27) tG_thereSet tI_thereSet ⟨Nat.le_of_ble_eq_true rfl, Nat.le_of_ble_eq_true rfl⟩ ⟨Nat.zero_le _, Nat.zero_le _⟩ 0 rfl rfl rfl rfl (Nat.le_of_ble_eq_true rfl) dX6_judge_121 ?_
                        refine tw_icmp_ne (tgt := 131) X dX6_judge_124 rfl hf (fun q29 hf => ?_) (fun q29 hf => ?_)
                        · clear q29
                          refine tw_sub [1, 2] (lv' := [(0, .ref o), (2, .int s5c)]) rfl ?_
                          have hL := leafL hf hk25
                          exact hL
                        · clear q29
                          refine tw_iconst (v := 0) X dX6_judge_131 rfl ?_
                          have hf28 := leafR hf hk25
                          refine tw_sub [1, 2] (lv' := [(0, .ref o), (2, .int s5c)]) rfl ?_
                          have hL := hk21 _ hf28
                          exact hL
                  · clear q32
                    refine tw_iconst (v := 0) X dX6_judge_131 rfl ?_
                    refine tw_sub [1, 2] (lv' := [(0, .ref o), (2, .int s5c)]) rfl ?_
                    have hL := hk21 _ hf
                    exact hL
                · clear q33
                  refine tw_iconst (v := 0) X dX6_judge_131 rfl ?_
                  refine tw_sub [1, 2] (lv' := [(0, .ref o), (2, .int s5c)]) rfl ?_
                  have hL := hk21 _ hf
                  exact hL
        · intro zz42 hf hk12
          refine tw_if_eq (tgt := 54) X dX6_judge_32 rfl hf (fun q41 hf => ?_) (fun q41 hf => ?_)
          · clear q41
            refine tw_iconst (v := 0) X dX6_judge_54 rfl ?_
            refine tw_sub [0, 2] (lv' := [(0, .ref o), (2, .int s5c)]) rfl ?_
            have hL := hk12 _ hf
            exact hL
          · clear q41
            refine tw_aload_n X dX6_judge_35 rfl 0 rfl ?_
            refine tw_aload_n X dX6_judge_36 rfl 0 rfl ?_
            refine tg_rows X  dX6_judge_37 ?_
            refine tw_iconst (v := 3) X dX6_judge_40 rfl ?_
            refine tw_iload_n X dX6_judge_41 rfl 2 rfl ?_
            refine tw_imul X dX6_judge_42 ?_
            obtain ⟨x37, hx37, hf⟩ := bnd hf
            refine ta_rows X hx37 dX6_judge_43 ?_
            obtain ⟨⟨y38a, y38b⟩, hy38, hf⟩ := bnd hf
            dsimp only [un2] at hf
            refine tw_callVz (As := [.int x37]) (st := []) X (tC_canBe hy38) tG_canBe tI_canBe ⟨Nat.le_of_ble_eq_true rfl, Nat.le_of_ble_eq_true rfl⟩ ⟨Nat.zero_le _, Nat.zero_le _⟩ 0 rfl rfl rfl rfl (Nat.le_of_ble_eq_true rfl) dX6_judge_44 ?_
            intro hb39
            refine tw_if_eq (tgt := 54) X dX6_judge_47 rfl hf (fun q40 hf => ?_) (fun q40 hf => ?_)
            · clear q40
              refine tw_iconst (v := 0) X dX6_judge_54 rfl ?_
              refine tw_sub [0, 2] (lv' := [(0, .ref o), (2, .int s5c)]) rfl ?_
              have hL := hk12 _ hf
              exact hL
            · clear q40
              refine tw_iconst (v := 1) X dX6_judge_50 rfl ?_
              refine tw_goto (tgt := 55) X dX6_judge_51 rfl ?_
              refine tw_sub [0, 2] (lv' := [(0, .ref o), (2, .int s5c)]) rfl ?_
              have hL := hk12 _ hf
              exact hL
      · clear q44
        have hf43 := leafR hf hl6
        refine tw_sub [0, 1] (lv' := [(0, .ref o), (1, .int s5b)]) rfl ?_
        have hL := hk3 _ hf43
        exact hL
