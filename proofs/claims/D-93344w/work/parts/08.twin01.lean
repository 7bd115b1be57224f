/-! THE TWIN's METHODS: a function and a contract each (printed by gen/mk_twin.py) -/
set_option maxRecDepth 100000
noncomputable def tF_dearest (g : St) (a1 : Int32) (a2 : Int32) : Option (Int32 × St) :=
  (tF_isBarter g a1 a2).bind fun x1 =>
  if x1 = 0 then
    some ((-1 : Int32), g)
  else
    (pf g 0 19 (0 : Int32)).bind fun g3 =>
    (tF_barters 6 g3 a1 a2).bind fun g4 =>
    iter (L := Int32 × Int32) (T := Int32 × St) (un2 fun s5a s5b => 
      if (8 : Int32) ≤ s5b then
        some (.inr (s5a, g4))
      else
        if (((g4 0 19) >>> (s5b &&& 31)) &&& (1 : Int32)) = (1 : Int32) then
          if s5a < 0 then
            some (.inl (s5b, (s5b + (1 : Int32))))
          else
            (rd (g4 1) 340 ((6 : Int32) + s5b)).bind fun x8 =>
            (rd (g4 1) 340 ((6 : Int32) + s5a)).bind fun x9 =>
            if x8 ≤ x9 then
              some (.inl (s5a, (s5b + (1 : Int32))))
            else
              some (.inl (s5b, (s5b + (1 : Int32))))
        else
          some (.inl (s5a, (s5b + (1 : Int32))))) ((-1 : Int32), (0 : Int32))
set_option maxHeartbeats 4000000 in
theorem tC_dearest {l : Launch} {D : va_G} {A : Nat → Prop} {o : Nat} {ad : Nat → Nat} {dI : ClassId} {g : St} {a1 : Int32} {a2 : Int32} {z : Int32 × St} (hf : tF_dearest g a1 a2 = some z) : Ct l yX6_dearest cX6_dearest 5 (some .int) 10 241 D vwCl [(dI, .int)] A (tW o ad dI) [.ref o, .int a1, .int a2] g (QI D vwCl A (tW o ad dI) z.1 z.2) := by
  unfold tF_dearest at hf
  refine ct_intro (own := RX6) (lv0 := [(0, .ref o), (1, .int a1), (2, .int a2)]) (by decide) rfl (Nat.le_of_ble_eq_true rfl) rfl ?_
  intro p e s m args below meth c X hr
  refine tw_aload_n X dX6_dearest_0 rfl 0 rfl ?_
  refine tw_iload_n X dX6_dearest_1 rfl 1 rfl ?_
  refine tw_iload_n X dX6_dearest_2 rfl 2 rfl ?_
  obtain ⟨x1, hx1, hf⟩ := bnd hf
  refine tw_callVz (As := [.int a1, .int a2]) (st := []) X (tC_isBarter hx1) tG_isBarter tI_isBarter ⟨Nat.le_of_ble_eq_true rfl, Nat.le_of_ble_eq_true rfl⟩ ⟨Nat.zero_le _, Nat.zero_le _⟩ 0 rfl rfl rfl rfl (Nat.le_of_ble_eq_true rfl) dX6_dearest_3 ?_
  intro hb2
  refine tw_if_ne (tgt := 11) X dX6_dearest_6 rfl hf (fun q15 hf => ?_) (fun q15 hf => ?_)
  · clear q15
    refine tw_iconst (v := -1) X dX6_dearest_9 rfl ?_
    exact tw_iret X hr (prj1 hf) (prj2 hf) dX6_dearest_10
  · clear q15
    refine tw_aload_n X dX6_dearest_11 rfl 0 rfl ?_
    refine tw_iconst (v := 0) X dX6_dearest_12 rfl ?_
    obtain ⟨g3, hg3, hf⟩ := bnd hf
    refine tp_comesTo X hg3 dX6_dearest_13 ?_
    refine tw_aload_n X dX6_dearest_16 rfl 0 rfl ?_
    refine tw_iload_n X dX6_dearest_17 rfl 1 rfl ?_
    refine tw_iload_n X dX6_dearest_18 rfl 2 rfl ?_
    obtain ⟨g4, hg4, hf⟩ := bnd hf
    refine tw_callVv (As := [.int a1, .int a2]) (st := []) X (tC_barters 6 _ _ _ _ hg4) tG_barters tI_barters ⟨Nat.le_of_ble_eq_true rfl, Nat.le_of_ble_eq_true rfl⟩ ⟨Nat.zero_le _, Nat.zero_le _⟩ 0 rfl rfl rfl rfl (Nat.le_of_ble_eq_true rfl) dX6_dearest_19 ?_
    refine tw_iconst (v := -1) X dX6_dearest_22 rfl ?_
    refine tw_istore_n (lv' := [(3, .int (-1 : Int32)), (0, .ref o), (1, .int a1), (2, .int a2)]) X dX6_dearest_23 rfl (by decide) rfl ?_
    refine tw_iconst (v := 0) X dX6_dearest_24 rfl ?_
    refine tw_istore (lv' := [(4, .int (0 : Int32)), (3, .int (-1 : Int32)), (0, .ref o), (1, .int a1), (2, .int a2)]) X dX6_dearest_25 (by decide) rfl ?_
    refine tw_sub [2, 1, 0] (lv' := [(0, .ref o), (3, .int (-1 : Int32)), (4, .int (0 : Int32))]) rfl ?_
    refine it_walk (P := un2 fun s5a s5b => TW p l e (rom 10 241) s m args below meth c (MQ below (QI D vwCl A (tW o ad dI) z.1 z.2) args s 0 0 A) D vwCl A (tW o ad dI) 5 0 0 g4 27 [(0, .ref o), (3, .int s5a), (4, .int s5b)] []) hf ?_
    rintro ⟨s5a, s5b⟩ zz14 hf hl6
    dsimp only [un2] at hf ⊢
    refine tw_iload X dX6_dearest_27 2 rfl ?_
    refine tw_bipush (v := 8) X dX6_dearest_29 rfl ?_
    refine tw_icmp_ge (tgt := 86) X dX6_dearest_31 rfl hf (fun q13 hf => ?_) (fun q13 hf => ?_)
    · clear q13
      refine tw_iload_n X dX6_dearest_86 rfl 1 rfl ?_
      have hf7 := leafR hf hl6
      exact tw_iret X hr (prj1 hf7) (prj2 hf7) dX6_dearest_87
    · clear q13
      refine tw_aload_n X dX6_dearest_34 rfl 0 rfl ?_
      refine tg_comesTo X  dX6_dearest_35 ?_
      refine tw_iload X dX6_dearest_38 2 rfl ?_
      refine tw_ishr X dX6_dearest_40 ?_
      refine tw_iconst (v := 1) X dX6_dearest_41 rfl ?_
      refine tw_iand X dX6_dearest_42 ?_
      refine tw_iconst (v := 1) X dX6_dearest_43 rfl ?_
      refine tw_icmp_ne (tgt := 78) X dX6_dearest_44 rfl hf (fun q12 hf => ?_) (fun q12 hf => ?_)
      · clear q12
        refine tw_iload_n X dX6_dearest_47 rfl 1 rfl ?_
        refine tw_if_lt (tgt := 73) X dX6_dearest_48 rfl hf (fun q11 hf => ?_) (fun q11 hf => ?_)
        · clear q11
          refine tw_iload X dX6_dearest_73 2 rfl ?_
          refine tw_goto (tgt := 79) X dX6_dearest_75 rfl ?_
          refine tw_istore_n (lv' := [(3, .int s5b), (0, .ref o), (4, .int s5b)]) X dX6_dearest_79 rfl (by decide) rfl ?_
          refine tw_iinc (q := 2) (v := (s5b + (1 : Int32))) (lv' := [(4, .int (s5b + (1 : Int32))), (3, .int s5b), (0, .ref o)]) X dX6_dearest_80 rfl rfl (by decide) rfl ?_
          refine tw_goto (tgt := 27) X dX6_dearest_83 rfl ?_
          refine tw_sub [2, 1, 0] (lv' := [(0, .ref o), (3, .int s5b), (4, .int (s5b + (1 : Int32)))]) rfl ?_
          have hL := leafL hf hl6
          exact hL
        · clear q11
          refine tw_aload_n X dX6_dearest_51 rfl 0 rfl ?_
          refine tg_s X  dX6_dearest_52 ?_
          refine tw_bipush (v := 6) X dX6_dearest_55 rfl ?_
          refine tw_iload X dX6_dearest_57 2 rfl ?_
          refine tw_iadd X dX6_dearest_59 ?_
          obtain ⟨x8, hx8, hf⟩ := bnd hf
          refine ta_s X hx8 dX6_dearest_60 ?_
          refine tw_aload_n X dX6_dearest_61 rfl 0 rfl ?_
          refine tg_s X  dX6_dearest_62 ?_
          refine tw_bipush (v := 6) X dX6_dearest_65 rfl ?_
          refine tw_iload_n X dX6_dearest_67 rfl 1 rfl ?_
          refine tw_iadd X dX6_dearest_68 ?_
          obtain ⟨x9, hx9, hf⟩ := bnd hf
          refine ta_s X hx9 dX6_dearest_69 ?_
          refine tw_icmp_le (tgt := 78) X dX6_dearest_70 rfl hf (fun q10 hf => ?_) (fun q10 hf => ?_)
          · clear q10
            refine tw_iload_n X dX6_dearest_78 rfl 1 rfl ?_
            refine tw_istore_n (lv' := [(3, .int s5a), (0, .ref o), (4, .int s5b)]) X dX6_dearest_79 rfl (by decide) rfl ?_
            refine tw_iinc (q := 2) (v := (s5b + (1 : Int32))) (lv' := [(4, .int (s5b + (1 : Int32))), (3, .int s5a), (0, .ref o)]) X dX6_dearest_80 rfl rfl (by decide) rfl ?_
            refine tw_goto (tgt := 27) X dX6_dearest_83 rfl ?_
            refine tw_sub [2, 1, 0] (lv' := [(0, .ref o), (3, .int s5a), (4, .int (s5b + (1 : Int32)))]) rfl ?_
            have hL := leafL hf hl6
            exact hL
          · clear q10
            refine tw_iload X dX6_dearest_73 2 rfl ?_
            refine tw_goto (tgt := 79) X dX6_dearest_75 rfl ?_
            refine tw_istore_n (lv' := [(3, .int s5b), (0, .ref o), (4, .int s5b)]) X dX6_dearest_79 rfl (by decide) rfl ?_
            refine tw_iinc (q := 2) (v := (s5b + (1 : Int32))) (lv' := [(4, .int (s5b + (1 : Int32))), (3, .int s5b), (0, .ref o)]) X dX6_dearest_80 rfl rfl (by decide) rfl ?_
            refine tw_goto (tgt := 27) X dX6_dearest_83 rfl ?_
            refine tw_sub [2, 1, 0] (lv' := [(0, .ref o), (3, .int s5b), (4, .int (s5b + (1 : Int32)))]) rfl ?_
            have hL := leafL hf hl6
            exact hL
      · clear q12
        refine tw_iload_n X dX6_dearest_78 rfl 1 rfl ?_
        refine tw_istore_n (lv' := [(3, .int s5a), (0, .ref o), (4, .int s5b)]) X dX6_dearest_79 rfl (by decide) rfl ?_
        refine tw_iinc (q := 2) (v := (s5b + (1 : Int32))) (lv' := [(4, .int (s5b + (1 : Int32))), (3, .int s5a), (0, .ref o)]) X dX6_dearest_80 rfl rfl (by decide) rfl ?_
        refine tw_goto (tgt := 27) X dX6_dearest_83 rfl ?_
        refine tw_sub [2, 1, 0] (lv' := [(0, .ref o), (3, .int s5a), (4, .int (s5b + (1 : Int32)))]) rfl ?_
        have hL := leafL hf hl6
        exact hL
noncomputable def tF_isGame (a1 : Int32) : Int32 :=
  (tF_in (a1).toInt64 (1 : Int64) (6 : Int64))
set_option maxHeartbeats 4000000 in
theorem tC_isGame {l : Launch} {D : va_G} {A : Nat → Prop} {o : Nat} {ad : Nat → Nat} {dI : ClassId} {g : St} (a1 : Int32) : Ct l yX6_isGame cX6_isGame 1 (some .boolean) 1 25 D vwCl [(dI, .int)] A (tW o ad dI) [.int a1] g (QZ D vwCl A (tW o ad dI) (tF_isGame a1) g) := by
  generalize hf : tF_isGame a1 = z
  unfold tF_isGame at hf
  refine ct_intro (own := RX6) (lv0 := [(0, .int a1)]) (by decide) rfl (Nat.le_of_ble_eq_true rfl) rfl ?_
  intro p e s m args below meth c X hr
  refine tw_iload_n X dX6_isGame_0 rfl 0 rfl ?_
  refine tw_i2l X dX6_isGame_1 ?_
  refine tw_lconst (v := 1) X dX6_isGame_2 rfl ?_
  refine tw_ldc2 (v := 6) X q1677 dX6_isGame_3 ?_
  refine tw_callSz (As := [.long (a1).toInt64, .long (1 : Int64), .long (6 : Int64)]) (st := []) X (tC_in (g := g) (a1).toInt64 (1 : Int64) (6 : Int64)) tG_in tI_in ⟨Nat.le_of_ble_eq_true rfl, Nat.le_of_ble_eq_true rfl⟩ ⟨Nat.zero_le _, Nat.zero_le _⟩ rfl rfl (Nat.le_of_ble_eq_true rfl) dX6_isGame_6 ?_
  intro hb1
  exact tw_zret X hr hb1 hf rfl dX6_isGame_9
noncomputable def tF_turned (a1 : Int32) : Int32 :=
  if a1 = (2 : Int32) then
    (2 : Int32)
  else
    ((1 : Int32) - a1)
set_option maxHeartbeats 4000000 in
theorem tC_turned {l : Launch} {D : va_G} {A : Nat → Prop} {o : Nat} {ad : Nat → Nat} {dI : ClassId} {g : St} (a1 : Int32) : Ct l yX6_turned cX6_turned 1 (some .int) 0 0 D vwCl [(dI, .int)] A (tW o ad dI) [.int a1] g (QI D vwCl A (tW o ad dI) (tF_turned a1) g) := by
  generalize hf : tF_turned a1 = z
  unfold tF_turned at hf
  refine ct_intro (own := RX6) (lv0 := [(0, .int a1)]) (by decide) rfl (Nat.le_of_ble_eq_true rfl) rfl ?_
  intro p e s m args below meth c X hr
  refine tw_iload_n X dX6_turned_0 rfl 0 rfl ?_
  refine tw_iconst (v := 2) X dX6_turned_1 rfl ?_
  refine tw_icmp_ne (tgt := 9) X dX6_turned_2 rfl hf (fun q1 hf => ?_) (fun q1 hf => ?_)
  · clear q1
    refine tw_iconst (v := 2) X dX6_turned_5 rfl ?_
    refine tw_goto (tgt := 12) X dX6_turned_6 rfl ?_
    exact tw_iret X hr hf rfl dX6_turned_12
  · clear q1
    refine tw_iconst (v := 1) X dX6_turned_9 rfl ?_
    refine tw_iload_n X dX6_turned_10 rfl 0 rfl ?_
    refine tw_isub X dX6_turned_11 ?_
    exact tw_iret X hr hf rfl dX6_turned_12
noncomputable def tF_report (g : St) (a1 : Int32) (a2 : Int32) (a3 : Int32) : Option (Int32 × St) :=
  if (tF_in (a1).toInt64 (0 : Int64) (99 : Int64)) = 0 then
    some ((-1 : Int32), g)
  else
    if (tF_in (a2).toInt64 (0 : Int64) (99 : Int64)) = 0 then
      some ((-1 : Int32), g)
    else
      if (tF_in (a3).toInt64 (0 : Int64) (999 : Int64)) = 0 then
        some ((-1 : Int32), g)
      else
        (rd (g 1) 340 (3 : Int32)).bind fun x4 =>
        if x4 = (6 : Int32) then
          some ((-2 : Int32), g)
        else
          (rd (g 1) 340 (3 : Int32)).bind fun x5 =>
          (wr g 1 340 ((52 : Int32) + ((3 : Int32) * x5)) a1).bind fun g6 =>
          (wr g6 1 340 (((52 : Int32) + ((3 : Int32) * x5)) + (1 : Int32)) a2).bind fun g7 =>
          (wr g7 1 340 (((52 : Int32) + ((3 : Int32) * x5)) + (2 : Int32)) a3).bind fun g8 =>
          (rd (g8 1) 340 (3 : Int32)).bind fun x9 =>
          (wr g8 1 340 (3 : Int32) (x9 + (1 : Int32))).bind fun g10 =>
          (rd (g10 1) 340 (3 : Int32)).bind fun x11 =>
          some ((x11 - (1 : Int32)), g10)
set_option maxHeartbeats 4000000 in
theorem tC_report {l : Launch} {D : va_G} {A : Nat → Prop} {o : Nat} {ad : Nat → Nat} {dI : ClassId} {g : St} {a1 : Int32} {a2 : Int32} {a3 : Int32} {z : Int32 × St} (hf : tF_report g a1 a2 a3 = some z) : Ct l yX6_report cX6_report 5 (some .int) 1 25 D vwCl [(dI, .int)] A (tW o ad dI) [.ref o, .int a1, .int a2, .int a3] g (QI D vwCl A (tW o ad dI) z.1 z.2) := by
  unfold tF_report at hf
  refine ct_intro (own := RX6) (lv0 := [(0, .ref o), (1, .int a1), (2, .int a2), (3, .int a3)]) (by decide) rfl (Nat.le_of_ble_eq_true rfl) rfl ?_
  intro p e s m args below meth c X hr
  refine tw_iload_n X dX6_report_0 rfl 1 rfl ?_
  refine tw_i2l X dX6_report_1 ?_
  refine tw_lconst (v := 0) X dX6_report_2 rfl ?_
  refine tw_ldc2 (v := 99) X q1742 dX6_report_3 ?_
  refine tw_callSz (As := [.long (a1).toInt64, .long (0 : Int64), .long (99 : Int64)]) (st := []) X (tC_in (g := g) (a1).toInt64 (0 : Int64) (99 : Int64)) tG_in tI_in ⟨Nat.le_of_ble_eq_true rfl, Nat.le_of_ble_eq_true rfl⟩ ⟨Nat.zero_le _, Nat.zero_le _⟩ rfl rfl (Nat.le_of_ble_eq_true rfl) dX6_report_6 ?_
  intro hb1
  refine tw_if_eq (tgt := 36) X dX6_report_9 rfl hf (fun q15 hf => ?_) (fun q15 hf => ?_)
  · clear q15
    refine tw_iconst (v := -1) X dX6_report_36 rfl ?_
    exact tw_iret X hr (prj1 hf) (prj2 hf) dX6_report_37
  · clear q15
    refine tw_iload_n X dX6_report_12 rfl 2 rfl ?_
    refine tw_i2l X dX6_report_13 ?_
    refine tw_lconst (v := 0) X dX6_report_14 rfl ?_
    refine tw_ldc2 (v := 99) X q1742 dX6_report_15 ?_
    refine tw_callSz (As := [.long (a2).toInt64, .long (0 : Int64), .long (99 : Int64)]) (st := []) X (tC_in (g := g) (a2).toInt64 (0 : Int64) (99 : Int64)) tG_in tI_in ⟨Nat.le_of_ble_eq_true rfl, Nat.le_of_ble_eq_true rfl⟩ ⟨Nat.zero_le _, Nat.zero_le _⟩ rfl rfl (Nat.le_of_ble_eq_true rfl) dX6_report_18 ?_
    intro hb2
    refine tw_if_eq (tgt := 36) X dX6_report_21 rfl hf (fun q14 hf => ?_) (fun q14 hf => ?_)
    · clear q14
      refine tw_iconst (v := -1) X dX6_report_36 rfl ?_
      exact tw_iret X hr (prj1 hf) (prj2 hf) dX6_report_37
    · clear q14
      refine tw_iload_n X dX6_report_24 rfl 3 rfl ?_
      refine tw_i2l X dX6_report_25 ?_
      refine tw_lconst (v := 0) X dX6_report_26 rfl ?_
      refine tw_ldc2 (v := 999) X q1665 dX6_report_27 ?_
      refine tw_callSz (As := [.long (a3).toInt64, .long (0 : Int64), .long (999 : Int64)]) (st := []) X (tC_in (g := g) (a3).toInt64 (0 : Int64) (999 : Int64)) tG_in tI_in ⟨Nat.le_of_ble_eq_true rfl, Nat.le_of_ble_eq_true rfl⟩ ⟨Nat.zero_le _, Nat.zero_le _⟩ rfl rfl (Nat.le_of_ble_eq_true rfl) dX6_report_30 ?_
      intro hb3
      refine tw_if_ne (tgt := 38) X dX6_report_33 rfl hf (fun q13 hf => ?_) (fun q13 hf => ?_)
      · clear q13
        refine tw_iconst (v := -1) X dX6_report_36 rfl ?_
        exact tw_iret X hr (prj1 hf) (prj2 hf) dX6_report_37
      · clear q13
        refine tw_aload_n X dX6_report_38 rfl 0 rfl ?_
        refine tg_s X  dX6_report_39 ?_
        refine tw_iconst (v := 3) X dX6_report_42 rfl ?_
        obtain ⟨x4, hx4, hf⟩ := bnd hf
        refine ta_s X hx4 dX6_report_43 ?_
        refine tw_bipush (v := 6) X dX6_report_44 rfl ?_
        refine tw_icmp_ne (tgt := 52) X dX6_report_46 rfl hf (fun q12 hf => ?_) (fun q12 hf => ?_)
        · clear q12
          refine tw_bipush (v := -2) X dX6_report_49 rfl ?_
          exact tw_iret X hr (prj1 hf) (prj2 hf) dX6_report_51
        · clear q12
          refine tw_bipush (v := 52) X dX6_report_52 rfl ?_
          refine tw_iconst (v := 3) X dX6_report_54 rfl ?_
          refine tw_aload_n X dX6_report_55 rfl 0 rfl ?_
          refine tg_s X  dX6_report_56 ?_
          refine tw_iconst (v := 3) X dX6_report_59 rfl ?_
          obtain ⟨x5, hx5, hf⟩ := bnd hf
          refine ta_s X hx5 dX6_report_60 ?_
          refine tw_imul X dX6_report_61 ?_
          refine tw_iadd X dX6_report_62 ?_
          refine tw_istore (lv' := [(4, .int ((52 : Int32) + ((3 : Int32) * x5))), (0, .ref o), (1, .int a1), (2, .int a2), (3, .int a3)]) X dX6_report_63 (by decide) rfl ?_
          refine tw_aload_n X dX6_report_65 rfl 1 rfl ?_
          refine tg_s X  dX6_report_66 ?_
          refine tw_iload X dX6_report_69 0 rfl ?_
          refine tw_iload_n X dX6_report_71 rfl 2 rfl ?_
          obtain ⟨g6, hg6, hf⟩ := bnd hf
          refine ts_s X hg6 dX6_report_72 ?_
          refine tw_aload_n X dX6_report_73 rfl 1 rfl ?_
          refine tg_s X  dX6_report_74 ?_
          refine tw_iload X dX6_report_77 0 rfl ?_
          refine tw_iconst (v := 1) X dX6_report_79 rfl ?_
          refine tw_iadd X dX6_report_80 ?_
          refine tw_iload_n X dX6_report_81 rfl 3 rfl ?_
          obtain ⟨g7, hg7, hf⟩ := bnd hf
          refine ts_s X hg7 dX6_report_82 ?_
          refine tw_aload_n X dX6_report_83 rfl 1 rfl ?_
          refine tg_s X  dX6_report_84 ?_
          refine tw_iload X dX6_report_87 0 rfl ?_
          refine tw_iconst (v := 2) X dX6_report_89 rfl ?_
          refine tw_iadd X dX6_report_90 ?_
          refine tw_iload_n X dX6_report_91 rfl 4 rfl ?_
          obtain ⟨g8, hg8, hf⟩ := bnd hf
          refine ts_s X hg8 dX6_report_92 ?_
          refine tw_aload_n X dX6_report_93 rfl 1 rfl ?_
          refine tg_s X  dX6_report_94 ?_
          refine tw_iconst (v := 3) X dX6_report_97 rfl ?_
          refine tw_dup2_11 X dX6_report_98 rfl rfl ?_
          obtain ⟨x9, hx9, hf⟩ := bnd hf
          refine ta_s X hx9 dX6_report_99 ?_
          refine tw_iconst (v := 1) X dX6_report_100 rfl ?_
          refine tw_iadd X dX6_report_101 ?_
          obtain ⟨g10, hg10, hf⟩ := bnd hf
          refine ts_s X hg10 dX6_report_102 ?_
          refine tw_aload_n X dX6_report_103 rfl 1 rfl ?_
          refine tg_s X  dX6_report_104 ?_
          refine tw_iconst (v := 3) X dX6_report_107 rfl ?_
          obtain ⟨x11, hx11, hf⟩ := bnd hf
          refine ta_s X hx11 dX6_report_108 ?_
          refine tw_iconst (v := 1) X dX6_report_109 rfl ?_
          refine tw_isub X dX6_report_110 ?_
          exact tw_iret X hr (prj1 hf) (prj2 hf) dX6_report_111
noncomputable def tF_forget (g : St) : Option (Int32 × St) :=
  (tF_becomes g (3 : Int32) (0 : Int32)).bind (un2 fun y1a y1b =>
  some (y1a, y1b))
set_option maxHeartbeats 4000000 in
theorem tC_forget {l : Launch} {D : va_G} {A : Nat → Prop} {o : Nat} {ad : Nat → Nat} {dI : ClassId} {g : St} {z : Int32 × St} (hf : tF_forget g = some z) : Ct l yX6_forget cX6_forget 1 (some .int) 1 23 D vwCl [(dI, .int)] A (tW o ad dI) [.ref o] g (QI D vwCl A (tW o ad dI) z.1 z.2) := by
  unfold tF_forget at hf
  refine ct_intro (own := RX6) (lv0 := [(0, .ref o)]) (by decide) rfl (Nat.le_of_ble_eq_true rfl) rfl ?_
  intro p e s m args below meth c X hr
  refine tw_aload_n X dX6_forget_0 rfl 0 rfl ?_
  refine tw_iconst (v := 3) X dX6_forget_1 rfl ?_
  refine tw_iconst (v := 0) X dX6_forget_2 rfl ?_
  obtain ⟨⟨y1a, y1b⟩, hy1, hf⟩ := bnd hf
  dsimp only [un2] at hf
  refine tw_callVi (As := [.int (3 : Int32), .int (0 : Int32)]) (st := []) X (tC_becomes hy1) tG_becomes tI_becomes ⟨Nat.le_of_ble_eq_true rfl, Nat.le_of_ble_eq_true rfl⟩ ⟨Nat.zero_le _, Nat.zero_le _⟩ 0 rfl rfl rfl rfl (Nat.le_of_ble_eq_true rfl) dX6_forget_3 ?_
  exact tw_iret X hr (prj1 hf) (prj2 hf) dX6_forget_6
noncomputable def tF_isFit (g : St) (a1 : Int32) (a2 : Int32) (a3 : Int32) : Option (Int32) :=
  iter (L := Int32) (T := Int32) (fun s1 => 
    (rd (g 1) 340 (3 : Int32)).bind fun x3 =>
    if x3 ≤ s1 then
      some (.inr (1 : Int32))
    else
      if s1 = a3 then
        some (.inl (s1 + (1 : Int32)))
      else
        (rd (g 1) 340 (((52 : Int32) + ((3 : Int32) * s1)) + (1 : Int32))).bind fun x5 =>
        (rd (g 1) 340 ((52 : Int32) + ((3 : Int32) * s1))).bind fun x6 =>
        (rd (g 1) 340 (((52 : Int32) + ((3 : Int32) * s1)) + (2 : Int32))).bind fun x7 =>
        if ((a1 * (tF_atLeast (x5 - x6))) + a2) = x7 then
          some (.inl (s1 + (1 : Int32)))
        else
          some (.inr (0 : Int32))) (0 : Int32)
set_option maxHeartbeats 4000000 in
theorem tC_isFit {l : Launch} {D : va_G} {A : Nat → Prop} {o : Nat} {ad : Nat → Nat} {dI : ClassId} {g : St} {a1 : Int32} {a2 : Int32} {a3 : Int32} {z : Int32} (hf : tF_isFit g a1 a2 a3 = some z) : Ct l yX6_isFit cX6_isFit 6 (some .boolean) 1 20 D vwCl [(dI, .int)] A (tW o ad dI) [.ref o, .int a1, .int a2, .int a3] g (QZ D vwCl A (tW o ad dI) z g) := by
  unfold tF_isFit at hf
  refine ct_intro (own := RX6) (lv0 := [(0, .ref o), (1, .int a1), (2, .int a2), (3, .int a3)]) (by decide) rfl (Nat.le_of_ble_eq_true rfl) rfl ?_
  intro p e s m args below meth c X hr
  refine tw_iconst (v := 0) X dX6_isFit_0 rfl ?_
  refine tw_istore (lv' := [(4, .int (0 : Int32)), (0, .ref o), (1, .int a1), (2, .int a2), (3, .int a3)]) X dX6_isFit_1 (by decide) rfl ?_
  refine tw_sub [1, 2, 3, 4, 0] (lv' := [(0, .ref o), (1, .int a1), (2, .int a2), (3, .int a3), (4, .int (0 : Int32))]) rfl ?_
  refine it_walk (P := fun s1 : Int32 => TW p l e (rom 1 20) s m args below meth c (MQ below (QZ D vwCl A (tW o ad dI) z g) args s 0 0 A) D vwCl A (tW o ad dI) 6 0 0 g 3 [(0, .ref o), (1, .int a1), (2, .int a2), (3, .int a3), (4, .int s1)] []) hf ?_
  intro s1 zz12 hf hl2
  refine tw_iload X dX6_isFit_3 4 rfl ?_
  refine tw_aload_n X dX6_isFit_5 rfl 0 rfl ?_
  refine tg_s X  dX6_isFit_6 ?_
  refine tw_iconst (v := 3) X dX6_isFit_9 rfl ?_
  obtain ⟨x3, hx3, hf⟩ := bnd hf
  refine ta_s X hx3 dX6_isFit_10 ?_
  refine tw_icmp_ge (tgt := 73) X dX6_isFit_11 rfl hf (fun q11 hf => ?_) (fun q11 hf => ?_)
  · clear q11
    refine tw_iconst (v := 1) X dX6_isFit_73 rfl ?_
    have hf4 := leafR hf hl2
    exact tw_zret X hr (Or.inr rfl) (Option.some.inj hf4) rfl dX6_isFit_74
  · clear q11
    refine tw_bipush (v := 52) X dX6_isFit_14 rfl ?_
    refine tw_iconst (v := 3) X dX6_isFit_16 rfl ?_
    refine tw_iload X dX6_isFit_17 4 rfl ?_
    refine tw_imul X dX6_isFit_19 ?_
    refine tw_iadd X dX6_isFit_20 ?_
    refine tw_istore (lv' := [(5, .int ((52 : Int32) + ((3 : Int32) * s1))), (0, .ref o), (1, .int a1), (2, .int a2), (3, .int a3), (4, .int s1)]) X dX6_isFit_21 (by decide) rfl ?_
    refine tw_iload X dX6_isFit_23 5 rfl ?_
    refine tw_iload_n X dX6_isFit_25 rfl 4 rfl ?_
    refine tw_icmp_eq (tgt := 67) X dX6_isFit_26 rfl hf (fun q10 hf => ?_) (fun q10 hf => ?_)
    · clear q10
      refine tw_iinc (q := 5) (v := (s1 + (1 : Int32))) (lv' := [(4, .int (s1 + (1 : Int32))), (5, .int ((52 : Int32) + ((3 : Int32) * s1))), (0, .ref o), (1, .int a1), (2, .int a2), (3, .int a3)]) X dX6_isFit_67 rfl rfl (by decide) rfl ?_
      refine tw_goto (tgt := 3) X dX6_isFit_70 rfl ?_
      refine tw_sub [2, 3, 4, 5, 0] (lv' := [(0, .ref o), (1, .int a1), (2, .int a2), (3, .int a3), (4, .int (s1 + (1 : Int32)))]) rfl ?_
      have hL := leafL hf hl2
      exact hL
    · clear q10
      refine tw_iload_n X dX6_isFit_29 rfl 2 rfl ?_
      refine tw_aload_n X dX6_isFit_30 rfl 1 rfl ?_
      refine tg_s X  dX6_isFit_31 ?_
      refine tw_iload X dX6_isFit_34 0 rfl ?_
      refine tw_iconst (v := 1) X dX6_isFit_36 rfl ?_
      refine tw_iadd X dX6_isFit_37 ?_
      obtain ⟨x5, hx5, hf⟩ := bnd hf
      refine ta_s X hx5 dX6_isFit_38 ?_
      refine tw_aload_n X dX6_isFit_39 rfl 1 rfl ?_
      refine tg_s X  dX6_isFit_40 ?_
      refine tw_iload X dX6_isFit_43 0 rfl ?_
      obtain ⟨x6, hx6, hf⟩ := bnd hf
      refine ta_s X hx6 dX6_isFit_45 ?_
      refine tw_isub X dX6_isFit_46 ?_
      refine tw_callSi (As := [.int (x5 - x6)]) (st := [.int a1]) X (tC_atLeast (g := g) (x5 - x6)) tG_atLeast tI_atLeast ⟨Nat.le_of_ble_eq_true rfl, Nat.le_of_ble_eq_true rfl⟩ ⟨Nat.zero_le _, Nat.zero_le _⟩ rfl rfl (Nat.le_of_ble_eq_true rfl) dX6_isFit_47 ?_
      refine tw_imul X dX6_isFit_50 ?_
      refine tw_iload_n X dX6_isFit_51 rfl 3 rfl ?_
      refine tw_iadd X dX6_isFit_52 ?_
      refine tw_aload_n X dX6_isFit_53 rfl 1 rfl ?_
      refine tg_s X  dX6_isFit_54 ?_
      refine tw_iload X dX6_isFit_57 0 rfl ?_
      refine tw_iconst (v := 2) X dX6_isFit_59 rfl ?_
      refine tw_iadd X dX6_isFit_60 ?_
      obtain ⟨x7, hx7, hf⟩ := bnd hf
      refine ta_s X hx7 dX6_isFit_61 ?_
      refine tw_icmp_eq (tgt := 67) X dX6_isFit_62 rfl hf (fun q9 hf => ?_) (fun q9 hf => ?_)
      · clear q9
        refine tw_iinc (q := 5) (v := (s1 + (1 : Int32))) (lv' := [(4, .int (s1 + (1 : Int32))), (5, .int ((52 : Int32) + ((3 : Int32) * s1))), (0, .ref o), (1, .int a1), (2, .int a2), (3, .int a3)]) X dX6_isFit_67 rfl rfl (by decide) rfl ?_
        refine tw_goto (tgt := 3) X dX6_isFit_70 rfl ?_
        refine tw_sub [2, 3, 4, 5, 0] (lv' := [(0, .ref o), (1, .int a1), (2, .int a2), (3, .int a3), (4, .int (s1 + (1 : Int32)))]) rfl ?_
        have hL := leafL hf hl2
        exact hL
      · clear q9
        refine tw_iconst (v := 0) X dX6_isFit_65 rfl ?_
        have hf8 := leafR hf hl2
        exact tw_zret X hr (Or.inl rfl) (Option.some.inj hf8) rfl dX6_isFit_66
noncomputable def tF_seed (g : St) (a1 : Int32) : Option (Int32 × St) :=
  (rd (g 1) 340 (5 : Int32)).bind fun x1 =>
  (wr g 1 340 (5 : Int32) a1).bind fun g2 =>
  some (x1, g2)
set_option maxHeartbeats 4000000 in
theorem tC_seed {l : Launch} {D : va_G} {A : Nat → Prop} {o : Nat} {ad : Nat → Nat} {dI : ClassId} {g : St} {a1 : Int32} {z : Int32 × St} (hf : tF_seed g a1 = some z) : Ct l yX6_seed cX6_seed 3 (some .int) 0 0 D vwCl [(dI, .int)] A (tW o ad dI) [.ref o, .int a1] g (QI D vwCl A (tW o ad dI) z.1 z.2) := by
  unfold tF_seed at hf
  refine ct_intro (own := RX6) (lv0 := [(0, .ref o), (1, .int a1)]) (by decide) rfl (Nat.le_of_ble_eq_true rfl) rfl ?_
  intro p e s m args below meth c X hr
  refine tw_aload_n X dX6_seed_0 rfl 0 rfl ?_
  refine tg_s X  dX6_seed_1 ?_
  refine tw_iconst (v := 5) X dX6_seed_4 rfl ?_
  obtain ⟨x1, hx1, hf⟩ := bnd hf
  refine ta_s X hx1 dX6_seed_5 ?_
  refine tw_istore_n (lv' := [(2, .int x1), (0, .ref o), (1, .int a1)]) X dX6_seed_6 rfl (by decide) rfl ?_
  refine tw_aload_n X dX6_seed_7 rfl 1 rfl ?_
  refine tg_s X  dX6_seed_8 ?_
  refine tw_iconst (v := 5) X dX6_seed_11 rfl ?_
  refine tw_iload_n X dX6_seed_12 rfl 2 rfl ?_
  obtain ⟨g2, hg2, hf⟩ := bnd hf
  refine ts_s X hg2 dX6_seed_13 ?_
  refine tw_iload_n X dX6_seed_14 rfl 0 rfl ?_
  exact tw_iret X hr (prj1 hf) (prj2 hf) dX6_seed_15
noncomputable def tF_puts (g : St) : Option (St) :=
  iter (L := St × Int32) (T := St) (un2 fun s1a s1b => 
    if (340 : Int32) ≤ s1b then
      some (.inr s1a)
    else
      (rd (s1a 1) 340 s1b).bind fun x4 =>
      (wr s1a 3 340 s1b x4).bind fun g5 =>
      some (.inl (g5, (s1b + (1 : Int32))))) (g, (0 : Int32))
set_option maxHeartbeats 4000000 in
theorem tC_puts {l : Launch} {D : va_G} {A : Nat → Prop} {o : Nat} {ad : Nat → Nat} {dI : ClassId} {g : St} {z : St} (hf : tF_puts g = some z) : Ct l yX6_puts cX6_puts 2 none 0 0 D vwCl [(dI, .int)] A (tW o ad dI) [.ref o] g (QV D vwCl A (tW o ad dI) z) := by
  unfold tF_puts at hf
  refine ct_intro (own := RX6) (lv0 := [(0, .ref o)]) (by decide) rfl (Nat.le_of_ble_eq_true rfl) rfl ?_
  intro p e s m args below meth c X hr
  refine tw_iconst (v := 0) X dX6_puts_0 rfl ?_
  refine tw_istore_n (lv' := [(1, .int (0 : Int32)), (0, .ref o)]) X dX6_puts_1 rfl (by decide) rfl ?_
  refine tw_sub [1, 0] (lv' := [(0, .ref o), (1, .int (0 : Int32))]) rfl ?_
  refine it_walk (P := un2 fun s1a s1b => TW p l e (rom 0 0) s m args below meth c (MQ below (QV D vwCl A (tW o ad dI) z) args s 0 0 A) D vwCl A (tW o ad dI) 2 0 0 s1a 2 [(0, .ref o), (1, .int s1b)] []) hf ?_
  rintro ⟨s1a, s1b⟩ zz7 hf hl2
  dsimp only [un2] at hf ⊢
  refine tw_iload_n X dX6_puts_2 rfl 1 rfl ?_
  refine tw_sipush (v := 340) X dX6_puts_3 rfl ?_
  refine tw_icmp_ge (tgt := 27) X dX6_puts_6 rfl hf (fun q6 hf => ?_) (fun q6 hf => ?_)
  · clear q6
    have hf3 := leafR hf hl2
    exact tw_vret X hr (Option.some.inj hf3) dX6_puts_27
  · clear q6
    refine tw_aload_n X dX6_puts_9 rfl 0 rfl ?_
    refine tg_other X  dX6_puts_10 ?_
    refine tw_iload_n X dX6_puts_13 rfl 1 rfl ?_
    refine tw_aload_n X dX6_puts_14 rfl 0 rfl ?_
    refine tg_s X  dX6_puts_15 ?_
    refine tw_iload_n X dX6_puts_18 rfl 1 rfl ?_
    obtain ⟨x4, hx4, hf⟩ := bnd hf
    refine ta_s X hx4 dX6_puts_19 ?_
    obtain ⟨g5, hg5, hf⟩ := bnd hf
    refine ts_other X hg5 dX6_puts_20 ?_
    refine tw_iinc (q := 1) (v := (s1b + (1 : Int32))) (lv' := [(1, .int (s1b + (1 : Int32))), (0, .ref o)]) X dX6_puts_21 rfl rfl (by decide) rfl ?_
    refine tw_goto (tgt := 2) X dX6_puts_24 rfl ?_
    refine tw_sub [1, 0] (lv' := [(0, .ref o), (1, .int (s1b + (1 : Int32)))]) rfl ?_
    have hL := leafL hf hl2
    exact hL
noncomputable def tF_putsBack (g : St) : Option (St) :=
  iter (L := St × Int32) (T := St) (un2 fun s1a s1b => 
    if (340 : Int32) ≤ s1b then
      some (.inr s1a)
    else
      (rd (s1a 3) 340 s1b).bind fun x4 =>
      (wr s1a 1 340 s1b x4).bind fun g5 =>
      some (.inl (g5, (s1b + (1 : Int32))))) (g, (0 : Int32))
set_option maxHeartbeats 4000000 in
theorem tC_putsBack {l : Launch} {D : va_G} {A : Nat → Prop} {o : Nat} {ad : Nat → Nat} {dI : ClassId} {g : St} {z : St} (hf : tF_putsBack g = some z) : Ct l yX6_putsBack cX6_putsBack 2 none 0 0 D vwCl [(dI, .int)] A (tW o ad dI) [.ref o] g (QV D vwCl A (tW o ad dI) z) := by
  unfold tF_putsBack at hf
  refine ct_intro (own := RX6) (lv0 := [(0, .ref o)]) (by decide) rfl (Nat.le_of_ble_eq_true rfl) rfl ?_
  intro p e s m args below meth c X hr
  refine tw_iconst (v := 0) X dX6_putsBack_0 rfl ?_
  refine tw_istore_n (lv' := [(1, .int (0 : Int32)), (0, .ref o)]) X dX6_putsBack_1 rfl (by decide) rfl ?_
  refine tw_sub [1, 0] (lv' := [(0, .ref o), (1, .int (0 : Int32))]) rfl ?_
  refine it_walk (P := un2 fun s1a s1b => TW p l e (rom 0 0) s m args below meth c (MQ below (QV D vwCl A (tW o ad dI) z) args s 0 0 A) D vwCl A (tW o ad dI) 2 0 0 s1a 2 [(0, .ref o), (1, .int s1b)] []) hf ?_
  rintro ⟨s1a, s1b⟩ zz7 hf hl2
  dsimp only [un2] at hf ⊢
  refine tw_iload_n X dX6_putsBack_2 rfl 1 rfl ?_
  refine tw_sipush (v := 340) X dX6_putsBack_3 rfl ?_
  refine tw_icmp_ge (tgt := 27) X dX6_putsBack_6 rfl hf (fun q6 hf => ?_) (fun q6 hf => ?_)
  · clear q6
    have hf3 := leafR hf hl2
    exact tw_vret X hr (Option.some.inj hf3) dX6_putsBack_27
  · clear q6
    refine tw_aload_n X dX6_putsBack_9 rfl 0 rfl ?_
    refine tg_s X  dX6_putsBack_10 ?_
    refine tw_iload_n X dX6_putsBack_13 rfl 1 rfl ?_
    refine tw_aload_n X dX6_putsBack_14 rfl 0 rfl ?_
    refine tg_other X  dX6_putsBack_15 ?_
    refine tw_iload_n X dX6_putsBack_18 rfl 1 rfl ?_
    obtain ⟨x4, hx4, hf⟩ := bnd hf
    refine ta_other X hx4 dX6_putsBack_19 ?_
    obtain ⟨g5, hg5, hf⟩ := bnd hf
    refine ts_s X hg5 dX6_putsBack_20 ?_
    refine tw_iinc (q := 1) (v := (s1b + (1 : Int32))) (lv' := [(1, .int (s1b + (1 : Int32))), (0, .ref o)]) X dX6_putsBack_21 rfl rfl (by decide) rfl ?_
    refine tw_goto (tgt := 2) X dX6_putsBack_24 rfl ?_
    refine tw_sub [1, 0] (lv' := [(0, .ref o), (1, .int (s1b + (1 : Int32)))]) rfl ?_
    have hL := leafL hf hl2
    exact hL
noncomputable def tF_isRow (g : St) (a1 : Int32) (a2 : Int32) : Option (Int32) :=
  if (tF_in (a1).toInt64 (0 : Int64) (((g 0 24) - (1 : Int32))).toInt64) = 0 then
    some (0 : Int32)
  else
    if (tF_in (a2).toInt64 (0 : Int64) (2 : Int64)) = 0 then
      some (0 : Int32)
    else
      some (1 : Int32)
set_option maxHeartbeats 4000000 in
theorem tC_isRow {l : Launch} {D : va_G} {A : Nat → Prop} {o : Nat} {ad : Nat → Nat} {dI : ClassId} {g : St} {a1 : Int32} {a2 : Int32} {z : Int32} (hf : tF_isRow g a1 a2 = some z) : Ct l yX6_isRow cX6_isRow 3 (some .boolean) 1 25 D vwCl [(dI, .int)] A (tW o ad dI) [.ref o, .int a1, .int a2] g (QZ D vwCl A (tW o ad dI) z g) := by
  unfold tF_isRow at hf
  refine ct_intro (own := RX6) (lv0 := [(0, .ref o), (1, .int a1), (2, .int a2)]) (by decide) rfl (Nat.le_of_ble_eq_true rfl) rfl ?_
  intro p e s m args below meth c X hr
  refine tw_iload_n X dX6_isRow_0 rfl 1 rfl ?_
  refine tw_i2l X dX6_isRow_1 ?_
  refine tw_lconst (v := 0) X dX6_isRow_2 rfl ?_
  refine tw_aload_n X dX6_isRow_3 rfl 0 rfl ?_
  refine tg_rowMany X  dX6_isRow_4 ?_
  refine tw_iconst (v := 1) X dX6_isRow_7 rfl ?_
  refine tw_isub X dX6_isRow_8 ?_
  refine tw_i2l X dX6_isRow_9 ?_
  refine tw_callSz (As := [.long (a1).toInt64, .long (0 : Int64), .long (((g 0 24) - (1 : Int32))).toInt64]) (st := []) X (tC_in (g := g) (a1).toInt64 (0 : Int64) (((g 0 24) - (1 : Int32))).toInt64) tG_in tI_in ⟨Nat.le_of_ble_eq_true rfl, Nat.le_of_ble_eq_true rfl⟩ ⟨Nat.zero_le _, Nat.zero_le _⟩ rfl rfl (Nat.le_of_ble_eq_true rfl) dX6_isRow_10 ?_
  intro hb1
  refine tw_if_eq (tgt := 32) X dX6_isRow_13 rfl hf (fun q4 hf => ?_) (fun q4 hf => ?_)
  · clear q4
    refine tw_iconst (v := 0) X dX6_isRow_32 rfl ?_
    exact tw_zret X hr (Or.inl rfl) (Option.some.inj hf) rfl dX6_isRow_33
  · clear q4
    refine tw_iload_n X dX6_isRow_16 rfl 2 rfl ?_
    refine tw_i2l X dX6_isRow_17 ?_
    refine tw_lconst (v := 0) X dX6_isRow_18 rfl ?_
    refine tw_ldc2 (v := 2) X q1879 dX6_isRow_19 ?_
    refine tw_callSz (As := [.long (a2).toInt64, .long (0 : Int64), .long (2 : Int64)]) (st := []) X (tC_in (g := g) (a2).toInt64 (0 : Int64) (2 : Int64)) tG_in tI_in ⟨Nat.le_of_ble_eq_true rfl, Nat.le_of_ble_eq_true rfl⟩ ⟨Nat.zero_le _, Nat.zero_le _⟩ rfl rfl (Nat.le_of_ble_eq_true rfl) dX6_isRow_22 ?_
    intro hb2
    refine tw_if_eq (tgt := 32) X dX6_isRow_25 rfl hf (fun q3 hf => ?_) (fun q3 hf => ?_)
    · clear q3
      refine tw_iconst (v := 0) X dX6_isRow_32 rfl ?_
      exact tw_zret X hr (Or.inl rfl) (Option.some.inj hf) rfl dX6_isRow_33
    · clear q3
      refine tw_iconst (v := 1) X dX6_isRow_28 rfl ?_
      refine tw_goto (tgt := 33) X dX6_isRow_29 rfl ?_
      exact tw_zret X hr (Or.inr rfl) (Option.some.inj hf) rfl dX6_isRow_33
noncomputable def tF_alterRow (g : St) (a1 : Int32) (a2 : Int32) (a3 : Int32) : Option (Int32 × St) :=
  (tF_isRow g a1 a2).bind fun x1 =>
  if x1 = 0 then
    some ((-9 : Int32), g)
  else
    (rd (g 24) 18 (((3 : Int32) * a1) + a2)).bind fun x3 =>
    (wr g 24 18 (((3 : Int32) * a1) + a2) a3).bind fun g4 =>
    some (x3, g4)
set_option maxHeartbeats 4000000 in
theorem tC_alterRow {l : Launch} {D : va_G} {A : Nat → Prop} {o : Nat} {ad : Nat → Nat} {dI : ClassId} {g : St} {a1 : Int32} {a2 : Int32} {a3 : Int32} {z : Int32 × St} (hf : tF_alterRow g a1 a2 a3 = some z) : Ct l yX6_alterRow cX6_alterRow 5 (some .int) 2 47 D vwCl [(dI, .int)] A (tW o ad dI) [.ref o, .int a1, .int a2, .int a3] g (QI D vwCl A (tW o ad dI) z.1 z.2) := by
  unfold tF_alterRow at hf
  refine ct_intro (own := RX6) (lv0 := [(0, .ref o), (1, .int a1), (2, .int a2), (3, .int a3)]) (by decide) rfl (Nat.le_of_ble_eq_true rfl) rfl ?_
  intro p e s m args below meth c X hr
  refine tw_aload_n X dX6_alterRow_0 rfl 0 rfl ?_
  refine tw_iload_n X dX6_alterRow_1 rfl 1 rfl ?_
  refine tw_iload_n X dX6_alterRow_2 rfl 2 rfl ?_
  obtain ⟨x1, hx1, hf⟩ := bnd hf
  refine tw_callVz (As := [.int a1, .int a2]) (st := []) X (tC_isRow hx1) tG_isRow tI_isRow ⟨Nat.le_of_ble_eq_true rfl, Nat.le_of_ble_eq_true rfl⟩ ⟨Nat.zero_le _, Nat.zero_le _⟩ 0 rfl rfl rfl rfl (Nat.le_of_ble_eq_true rfl) dX6_alterRow_3 ?_
  intro hb2
  refine tw_if_ne (tgt := 12) X dX6_alterRow_6 rfl hf (fun q5 hf => ?_) (fun q5 hf => ?_)
  · clear q5
    refine tw_bipush (v := -9) X dX6_alterRow_9 rfl ?_
    exact tw_iret X hr (prj1 hf) (prj2 hf) dX6_alterRow_11
  · clear q5
    refine tw_aload_n X dX6_alterRow_12 rfl 0 rfl ?_
    refine tg_rows X  dX6_alterRow_13 ?_
    refine tw_iconst (v := 3) X dX6_alterRow_16 rfl ?_
    refine tw_iload_n X dX6_alterRow_17 rfl 1 rfl ?_
    refine tw_imul X dX6_alterRow_18 ?_
    refine tw_iload_n X dX6_alterRow_19 rfl 2 rfl ?_
    refine tw_iadd X dX6_alterRow_20 ?_
    obtain ⟨x3, hx3, hf⟩ := bnd hf
    refine ta_rows X hx3 dX6_alterRow_21 ?_
    refine tw_istore (lv' := [(4, .int x3), (0, .ref o), (1, .int a1), (2, .int a2), (3, .int a3)]) X dX6_alterRow_22 (by decide) rfl ?_
    refine tw_aload_n X dX6_alterRow_24 rfl 1 rfl ?_
    refine tg_rows X  dX6_alterRow_25 ?_
    refine tw_iconst (v := 3) X dX6_alterRow_28 rfl ?_
    refine tw_iload_n X dX6_alterRow_29 rfl 2 rfl ?_
    refine tw_imul X dX6_alterRow_30 ?_
    refine tw_iload_n X dX6_alterRow_31 rfl 3 rfl ?_
    refine tw_iadd X dX6_alterRow_32 ?_
    refine tw_iload_n X dX6_alterRow_33 rfl 4 rfl ?_
    obtain ⟨g4, hg4, hf⟩ := bnd hf
    refine ts_rows X hg4 dX6_alterRow_34 ?_
    refine tw_iload X dX6_alterRow_35 0 rfl ?_
    exact tw_iret X hr (prj1 hf) (prj2 hf) dX6_alterRow_37
noncomputable def tF_feed (g : St) (a1 : Int64) (a2 : Int32) : Option (Int32 × St) :=
  if (tF_in (a2).toInt64 (1 : Int64) (8 : Int64)) = 0 then
    some ((-1 : Int32), g)
  else
    if ((g 0 26) + a2) ≤ (200 : Int32) then
      iter (L := St × Int32) (T := Int32 × St) (un2 fun s2a s2b => 
        if a2 ≤ s2b then
          some (.inr ((s2a 0 26), s2a))
        else
          (wr s2a 26 200 (s2a 0 26) (((a1 >>> ((((8 : Int32) * s2b)).toInt64 &&& 63)) &&& (255 : Int64))).toInt32).bind fun g5 =>
          (pf g5 0 26 ((g5 0 26) + (1 : Int32))).bind fun g6 =>
          some (.inl (g6, (s2b + (1 : Int32))))) (g, (0 : Int32))
    else
      some ((-2 : Int32), g)
set_option maxHeartbeats 4000000 in
theorem tC_feed {l : Launch} {D : va_G} {A : Nat → Prop} {o : Nat} {ad : Nat → Nat} {dI : ClassId} {g : St} {a1 : Int64} {a2 : Int32} {z : Int32 × St} (hf : tF_feed g a1 a2 = some z) : Ct l yX6_feed cX6_feed 5 (some .int) 1 25 D vwCl [(dI, .int)] A (tW o ad dI) [.ref o, .long a1, .int a2] g (QI D vwCl A (tW o ad dI) z.1 z.2) := by
  unfold tF_feed at hf
  refine ct_intro (own := RX6) (lv0 := [(0, .ref o), (1, .long a1), (3, .int a2)]) (by decide) rfl (Nat.le_of_ble_eq_true rfl) rfl ?_
  intro p e s m args below meth c X hr
  refine tw_iload_n X dX6_feed_0 rfl 2 rfl ?_
  refine tw_i2l X dX6_feed_1 ?_
  refine tw_lconst (v := 1) X dX6_feed_2 rfl ?_
  refine tw_ldc2 (v := 8) X q2009 dX6_feed_3 ?_
  refine tw_callSz (As := [.long (a2).toInt64, .long (1 : Int64), .long (8 : Int64)]) (st := []) X (tC_in (g := g) (a2).toInt64 (1 : Int64) (8 : Int64)) tG_in tI_in ⟨Nat.le_of_ble_eq_true rfl, Nat.le_of_ble_eq_true rfl⟩ ⟨Nat.zero_le _, Nat.zero_le _⟩ rfl rfl (Nat.le_of_ble_eq_true rfl) dX6_feed_6 ?_
  intro hb1
  refine tw_if_ne (tgt := 14) X dX6_feed_9 rfl hf (fun q10 hf => ?_) (fun q10 hf => ?_)
  · clear q10
    refine tw_iconst (v := -1) X dX6_feed_12 rfl ?_
    exact tw_iret X hr (prj1 hf) (prj2 hf) dX6_feed_13
  · clear q10
    refine tw_aload_n X dX6_feed_14 rfl 0 rfl ?_
    refine tg_taped X  dX6_feed_15 ?_
    refine tw_iload_n X dX6_feed_18 rfl 2 rfl ?_
    refine tw_iadd X dX6_feed_19 ?_
    refine tw_sipush (v := 200) X dX6_feed_20 rfl ?_
    refine tw_icmp_le (tgt := 29) X dX6_feed_23 rfl hf (fun q9 hf => ?_) (fun q9 hf => ?_)
    · clear q9
      refine tw_iconst (v := 0) X dX6_feed_29 rfl ?_
      refine tw_istore (lv' := [(4, .int (0 : Int32)), (0, .ref o), (1, .long a1), (3, .int a2)]) X dX6_feed_30 (by decide) rfl ?_
      refine tw_sub [1, 2, 3, 0] (lv' := [(0, .ref o), (1, .long a1), (3, .int a2), (4, .int (0 : Int32))]) rfl ?_
      refine it_walk (P := un2 fun s2a s2b => TW p l e (rom 1 25) s m args below meth c (MQ below (QI D vwCl A (tW o ad dI) z.1 z.2) args s 0 0 A) D vwCl A (tW o ad dI) 5 0 0 s2a 32 [(0, .ref o), (1, .long a1), (3, .int a2), (4, .int s2b)] []) hf ?_
      rintro ⟨s2a, s2b⟩ zz8 hf hl3
      dsimp only [un2] at hf ⊢
      refine tw_iload X dX6_feed_32 3 rfl ?_
      refine tw_iload_n X dX6_feed_34 rfl 2 rfl ?_
      refine tw_icmp_ge (tgt := 75) X dX6_feed_35 rfl hf (fun q7 hf => ?_) (fun q7 hf => ?_)
      · clear q7
        refine tw_aload_n X dX6_feed_75 rfl 0 rfl ?_
        refine tg_taped X  dX6_feed_76 ?_
        have hf4 := leafR hf hl3
        exact tw_iret X hr (prj1 hf4) (prj2 hf4) dX6_feed_79
      · clear q7
        refine tw_aload_n X dX6_feed_38 rfl 0 rfl ?_
        refine tg_tape X  dX6_feed_39 ?_
        refine tw_aload_n X dX6_feed_42 rfl 0 rfl ?_
        refine tg_taped X  dX6_feed_43 ?_
        refine tw_lload_n X dX6_feed_46 rfl 1 rfl ?_
        refine tw_bipush (v := 8) X dX6_feed_47 rfl ?_
        refine tw_iload X dX6_feed_49 3 rfl ?_
        refine tw_imul X dX6_feed_51 ?_
        refine tw_lshr X dX6_feed_52 ?_
        refine tw_ldc2 (v := 255) X q2010 dX6_feed_53 ?_
        refine tw_land X dX6_feed_56 ?_
        refine tw_l2i X dX6_feed_57 ?_
        obtain ⟨g5, hg5, hf⟩ := bnd hf
        refine ts_tape X hg5 dX6_feed_58 ?_
        refine tw_aload_n X dX6_feed_59 rfl 0 rfl ?_
        refine tw_dup X dX6_feed_60 rfl ?_
        refine tg_taped X  dX6_feed_61 ?_
        refine tw_iconst (v := 1) X dX6_feed_64 rfl ?_
        refine tw_iadd X dX6_feed_65 ?_
        obtain ⟨g6, hg6, hf⟩ := bnd hf
        refine tp_taped X hg6 dX6_feed_66 ?_
        refine tw_iinc (q := 3) (v := (s2b + (1 : Int32))) (lv' := [(4, .int (s2b + (1 : Int32))), (0, .ref o), (1, .long a1), (3, .int a2)]) X dX6_feed_69 rfl rfl (by decide) rfl ?_
        refine tw_goto (tgt := 32) X dX6_feed_72 rfl ?_
        refine tw_sub [1, 2, 3, 0] (lv' := [(0, .ref o), (1, .long a1), (3, .int a2), (4, .int (s2b + (1 : Int32)))]) rfl ?_
        have hL := leafL hf hl3
        exact hL
    · clear q9
      refine tw_bipush (v := -2) X dX6_feed_26 rfl ?_
      exact tw_iret X hr (prj1 hf) (prj2 hf) dX6_feed_28
noncomputable def tF_byteAt (g : St) (a1 : Int32) : Option (Int32) :=
  if (g 0 26) ≤ a1 then
    some (-1 : Int32)
  else
    (rd (g 26) 200 a1).bind fun x1 =>
    some x1
set_option maxHeartbeats 4000000 in
theorem tC_byteAt {l : Launch} {D : va_G} {A : Nat → Prop} {o : Nat} {ad : Nat → Nat} {dI : ClassId} {g : St} {a1 : Int32} {z : Int32} (hf : tF_byteAt g a1 = some z) : Ct l yX6_byteAt cX6_byteAt 2 (some .int) 0 0 D vwCl [(dI, .int)] A (tW o ad dI) [.ref o, .int a1] g (QI D vwCl A (tW o ad dI) z g) := by
  unfold tF_byteAt at hf
  refine ct_intro (own := RX6) (lv0 := [(0, .ref o), (1, .int a1)]) (by decide) rfl (Nat.le_of_ble_eq_true rfl) rfl ?_
  intro p e s m args below meth c X hr
  refine tw_iload_n X dX6_byteAt_0 rfl 1 rfl ?_
  refine tw_aload_n X dX6_byteAt_1 rfl 0 rfl ?_
  refine tg_taped X  dX6_byteAt_2 ?_
  refine tw_icmp_ge (tgt := 17) X dX6_byteAt_5 rfl hf (fun q2 hf => ?_) (fun q2 hf => ?_)
  · clear q2
    refine tw_iconst (v := -1) X dX6_byteAt_17 rfl ?_
    exact tw_iret X hr (Option.some.inj hf) rfl dX6_byteAt_18
  · clear q2
    refine tw_aload_n X dX6_byteAt_8 rfl 0 rfl ?_
    refine tg_tape X  dX6_byteAt_9 ?_
    refine tw_iload_n X dX6_byteAt_12 rfl 1 rfl ?_
    obtain ⟨x1, hx1, hf⟩ := bnd hf
    refine ta_tape X hx1 dX6_byteAt_13 ?_
    refine tw_goto (tgt := 18) X dX6_byteAt_14 rfl ?_
    exact tw_iret X hr (Option.some.inj hf) rfl dX6_byteAt_18
noncomputable def tF_isLetter (a1 : Int32) : Int32 :=
  (tF_in (a1).toInt64 (97 : Int64) (122 : Int64))
set_option maxHeartbeats 4000000 in
theorem tC_isLetter {l : Launch} {D : va_G} {A : Nat → Prop} {o : Nat} {ad : Nat → Nat} {dI : ClassId} {g : St} (a1 : Int32) : Ct l yX6_isLetter cX6_isLetter 1 (some .boolean) 1 25 D vwCl [(dI, .int)] A (tW o ad dI) [.int a1] g (QZ D vwCl A (tW o ad dI) (tF_isLetter a1) g) := by
  generalize hf : tF_isLetter a1 = z
  unfold tF_isLetter at hf
  refine ct_intro (own := RX6) (lv0 := [(0, .int a1)]) (by decide) rfl (Nat.le_of_ble_eq_true rfl) rfl ?_
  intro p e s m args below meth c X hr
  refine tw_iload_n X dX6_isLetter_0 rfl 0 rfl ?_
  refine tw_i2l X dX6_isLetter_1 ?_
  refine tw_ldc2 (v := 97) X q2026 dX6_isLetter_2 ?_
  refine tw_ldc2 (v := 122) X q2027 dX6_isLetter_5 ?_
  refine tw_callSz (As := [.long (a1).toInt64, .long (97 : Int64), .long (122 : Int64)]) (st := []) X (tC_in (g := g) (a1).toInt64 (97 : Int64) (122 : Int64)) tG_in tI_in ⟨Nat.le_of_ble_eq_true rfl, Nat.le_of_ble_eq_true rfl⟩ ⟨Nat.zero_le _, Nat.zero_le _⟩ rfl rfl (Nat.le_of_ble_eq_true rfl) dX6_isLetter_8 ?_
  intro hb1
  exact tw_zret X hr hb1 hf rfl dX6_isLetter_11
noncomputable def tF_isDigit (a1 : Int32) : Int32 :=
  (tF_in (a1).toInt64 (48 : Int64) (57 : Int64))
set_option maxHeartbeats 4000000 in
theorem tC_isDigit {l : Launch} {D : va_G} {A : Nat → Prop} {o : Nat} {ad : Nat → Nat} {dI : ClassId} {g : St} (a1 : Int32) : Ct l yX6_isDigit cX6_isDigit 1 (some .boolean) 1 25 D vwCl [(dI, .int)] A (tW o ad dI) [.int a1] g (QZ D vwCl A (tW o ad dI) (tF_isDigit a1) g) := by
  generalize hf : tF_isDigit a1 = z
  unfold tF_isDigit at hf
  refine ct_intro (own := RX6) (lv0 := [(0, .int a1)]) (by decide) rfl (Nat.le_of_ble_eq_true rfl) rfl ?_
  intro p e s m args below meth c X hr
  refine tw_iload_n X dX6_isDigit_0 rfl 0 rfl ?_
  refine tw_i2l X dX6_isDigit_1 ?_
  refine tw_ldc2 (v := 48) X q2031 dX6_isDigit_2 ?_
  refine tw_ldc2 (v := 57) X q2032 dX6_isDigit_5 ?_
  refine tw_callSz (As := [.long (a1).toInt64, .long (48 : Int64), .long (57 : Int64)]) (st := []) X (tC_in (g := g) (a1).toInt64 (48 : Int64) (57 : Int64)) tG_in tI_in ⟨Nat.le_of_ble_eq_true rfl, Nat.le_of_ble_eq_true rfl⟩ ⟨Nat.zero_le _, Nat.zero_le _⟩ rfl rfl (Nat.le_of_ble_eq_true rfl) dX6_isDigit_8 ?_
  intro hb1
  exact tw_zret X hr hb1 hf rfl dX6_isDigit_11
noncomputable def tF_word (g : St) : Option (Int64) :=
  Option.bind (α := Int64) (β := Int64)
    (iter (L := Int64 × Int32) (T := Int64) (un2 fun s7a s7b => 
      if (g 0 28) ≤ s7b then
        some (.inr s7a)
      else
        if (lg_cmp s7a (36028797018963967 : Int64)) ≤ 0 then
          (rd (g 26) 200 s7b).bind fun x10 =>
          some (.inl ((((32 : Int64) * s7a) + ((x10 - (96 : Int32))).toInt64), (s7b + (1 : Int32))))
        else
          some (.inl (s7a, (s7b + (1 : Int32))))) ((0 : Int64), (g 0 27)))
    (fun j1 => if (g 0 32) = 0 then
      (tF_byteAt g (g 0 27)).bind fun x3 =>
      if (tF_isLetter x3) = 0 then
        some (0 : Int64)
      else
        some j1
    else
      some (0 : Int64))
set_option maxHeartbeats 4000000 in
theorem tC_word {l : Launch} {D : va_G} {A : Nat → Prop} {o : Nat} {ad : Nat → Nat} {dI : ClassId} {g : St} {z : Int64} (hf : tF_word g = some z) : Ct l yX6_word cX6_word 4 (some .long) 2 45 D vwCl [(dI, .int)] A (tW o ad dI) [.ref o] g (QL D vwCl A (tW o ad dI) z g) := by
  unfold tF_word at hf
  refine ct_intro (own := RX6) (lv0 := [(0, .ref o)]) (by decide) rfl (Nat.le_of_ble_eq_true rfl) rfl ?_
  intro p e s m args below meth c X hr
  refine tw_lconst (v := 0) X dX6_word_0 rfl ?_
  refine tw_lstore_n (lv' := [(1, .long (0 : Int64)), (0, .ref o)]) X dX6_word_1 rfl (by decide) rfl ?_
  refine tw_aload_n X dX6_word_2 rfl 1 rfl ?_
  refine tg_from X  dX6_word_3 ?_
  refine tw_istore_n (lv' := [(3, .int (g 0 27)), (1, .long (0 : Int64)), (0, .ref o)]) X dX6_word_6 rfl (by decide) rfl ?_
  refine bj_walk (P := fun j1 : Int64 => TW p l e (rom 2 45) s m args below meth c (MQ below (QL D vwCl A (tW o ad dI) z g) args s 0 0 A) D vwCl A (tW o ad dI) 4 0 0 g 50 [(0, .ref o), (1, .long j1)] []) hf ?_ ?_
  · intro j1 hf
    refine tw_aload_n X dX6_word_50 rfl 0 rfl ?_
    refine tg_isWrong X  dX6_word_51 ?_
    refine tw_if_ne (tgt := 71) X dX6_word_54 rfl hf (fun q6 hf => ?_) (fun q6 hf => ?_)
    · clear q6
      refine tw_aload_n X dX6_word_57 rfl 0 rfl ?_
      refine tw_aload_n X dX6_word_58 rfl 0 rfl ?_
      refine tg_from X  dX6_word_59 ?_
      obtain ⟨x3, hx3, hf⟩ := bnd hf
      refine tw_callVi (As := [.int (g 0 27)]) (st := []) X (tC_byteAt hx3) tG_byteAt tI_byteAt ⟨Nat.le_of_ble_eq_true rfl, Nat.le_of_ble_eq_true rfl⟩ ⟨Nat.zero_le _, Nat.zero_le _⟩ 0 rfl rfl rfl rfl (Nat.le_of_ble_eq_true rfl) dX6_word_62 ?_
      refine tw_callSz (As := [.int x3]) (st := []) X (tC_isLetter (g := g) x3) tG_isLetter tI_isLetter ⟨Nat.le_of_ble_eq_true rfl, Nat.le_of_ble_eq_true rfl⟩ ⟨Nat.zero_le _, Nat.zero_le _⟩ rfl rfl (Nat.le_of_ble_eq_true rfl) dX6_word_65 ?_
      intro hb4
      refine tw_if_ne (tgt := 75) X dX6_word_68 rfl hf (fun q5 hf => ?_) (fun q5 hf => ?_)
      · clear q5
        refine tw_lconst (v := 0) X dX6_word_71 rfl ?_
        refine tw_goto (tgt := 76) X dX6_word_72 rfl ?_
        exact tw_lret X hr (Option.some.inj hf) rfl dX6_word_76
      · clear q5
        refine tw_lload_n X dX6_word_75 rfl 1 rfl ?_
        exact tw_lret X hr (Option.some.inj hf) rfl dX6_word_76
    · clear q6
      refine tw_lconst (v := 0) X dX6_word_71 rfl ?_
      refine tw_goto (tgt := 76) X dX6_word_72 rfl ?_
      exact tw_lret X hr (Option.some.inj hf) rfl dX6_word_76
  · intro zz14 hf hk2
    refine tw_sub [2, 1, 0] (lv' := [(0, .ref o), (1, .long (0 : Int64)), (3, .int (g 0 27))]) rfl ?_
    refine it_walk (P := un2 fun s7a s7b => TW p l e (rom 2 45) s m args below meth c (MQ below (QL D vwCl A (tW o ad dI) z g) args s 0 0 A) D vwCl A (tW o ad dI) 4 0 0 g 7 [(0, .ref o), (1, .long s7a), (3, .int s7b)] []) hf ?_
    rintro ⟨s7a, s7b⟩ zz13 hf hl8
    dsimp only [un2] at hf ⊢
    refine tw_iload_n X dX6_word_7 rfl 2 rfl ?_
    refine tw_aload_n X dX6_word_8 rfl 0 rfl ?_
    refine tg_to X  dX6_word_9 ?_
    refine tw_icmp_ge (tgt := 50) X dX6_word_12 rfl hf (fun q12 hf => ?_) (fun q12 hf => ?_)
    · clear q12
      have hf9 := leafR hf hl8
      refine tw_sub [0, 1] (lv' := [(0, .ref o), (1, .long s7a)]) rfl ?_
      have hL := hk2 _ hf9
      exact hL
    · clear q12
      refine tw_lload_n X dX6_word_15 rfl 1 rfl ?_
      refine tw_ldc2 (v := 36028797018963967) X q2045 dX6_word_16 ?_
      refine tw_lcmp X dX6_word_19 ?_
      refine tw_if_le (tgt := 27) X dX6_word_20 rfl hf (fun q11 hf => ?_) (fun q11 hf => ?_)
      · clear q11
        refine tw_ldc2 (v := 32) X q2046 dX6_word_27 ?_
        refine tw_lload_n X dX6_word_30 rfl 1 rfl ?_
        refine tw_lmul X dX6_word_31 ?_
        refine tw_aload_n X dX6_word_32 rfl 0 rfl ?_
        refine tg_tape X  dX6_word_33 ?_
        refine tw_iload_n X dX6_word_36 rfl 2 rfl ?_
        obtain ⟨x10, hx10, hf⟩ := bnd hf
        refine ta_tape X hx10 dX6_word_37 ?_
        refine tw_bipush (v := 96) X dX6_word_38 rfl ?_
        refine tw_isub X dX6_word_40 ?_
        refine tw_i2l X dX6_word_41 ?_
        refine tw_ladd X dX6_word_42 ?_
        refine tw_lstore_n (lv' := [(1, .long (((32 : Int64) * s7a) + ((x10 - (96 : Int32))).toInt64)), (0, .ref o), (3, .int s7b)]) X dX6_word_43 rfl (by decide) rfl ?_
        refine tw_iinc (q := 2) (v := (s7b + (1 : Int32))) (lv' := [(3, .int (s7b + (1 : Int32))), (1, .long (((32 : Int64) * s7a) + ((x10 - (96 : Int32))).toInt64)), (0, .ref o)]) X dX6_word_44 rfl rfl (by decide) rfl ?_
        refine tw_goto (tgt := 7) X dX6_word_47 rfl ?_
        refine tw_sub [2, 1, 0] (lv' := [(0, .ref o), (1, .long (((32 : Int64) * s7a) + ((x10 - (96 : Int32))).toInt64)), (3, .int (s7b + (1 : Int32)))]) rfl ?_
        have hL := leafL hf hl8
        exact hL
      · clear q11
        refine tw_lload_n X dX6_word_23 rfl 1 rfl ?_
        refine tw_goto (tgt := 43) X dX6_word_24 rfl ?_
        refine tw_lstore_n (lv' := [(1, .long s7a), (0, .ref o), (3, .int s7b)]) X dX6_word_43 rfl (by decide) rfl ?_
        refine tw_iinc (q := 2) (v := (s7b + (1 : Int32))) (lv' := [(3, .int (s7b + (1 : Int32))), (1, .long s7a), (0, .ref o)]) X dX6_word_44 rfl rfl (by decide) rfl ?_
        refine tw_goto (tgt := 7) X dX6_word_47 rfl ?_
        refine tw_sub [2, 1, 0] (lv' := [(0, .ref o), (1, .long s7a), (3, .int (s7b + (1 : Int32)))]) rfl ?_
        have hL := leafL hf hl8
        exact hL
noncomputable def tF_factHere (g : St) : Option (Int32) :=
  (tF_word g).bind fun x1 =>
  if (lg_cmp x1 (8243 : Int64)) = 0 then
    some (-1 : Int32)
  else
    if (lg_cmp x1 (464036 : Int64)) = 0 then
      some (-2 : Int32)
    else
      if (lg_cmp x1 (3646931 : Int64)) = 0 then
        some (-3 : Int32)
      else
        if (lg_cmp x1 (24395141 : Int64)) = 0 then
          some (-4 : Int32)
        else
          if (lg_cmp x1 (492210354 : Int64)) = 0 then
            some (-5 : Int32)
          else
            some (0 : Int32)
set_option maxHeartbeats 4000000 in
theorem tC_factHere {l : Launch} {D : va_G} {A : Nat → Prop} {o : Nat} {ad : Nat → Nat} {dI : ClassId} {g : St} {z : Int32} (hf : tF_factHere g = some z) : Ct l yX6_factHere cX6_factHere 3 (some .int) 3 68 D vwCl [(dI, .int)] A (tW o ad dI) [.ref o] g (QI D vwCl A (tW o ad dI) z g) := by
  unfold tF_factHere at hf
  refine ct_intro (own := RX6) (lv0 := [(0, .ref o)]) (by decide) rfl (Nat.le_of_ble_eq_true rfl) rfl ?_
  intro p e s m args below meth c X hr
  refine tw_aload_n X dX6_factHere_0 rfl 0 rfl ?_
  obtain ⟨x1, hx1, hf⟩ := bnd hf
  refine tw_callVl (As := []) (st := []) X (tC_word hx1) tG_word tI_word ⟨Nat.le_of_ble_eq_true rfl, Nat.le_of_ble_eq_true rfl⟩ ⟨Nat.zero_le _, Nat.zero_le _⟩ 0 rfl rfl rfl rfl (Nat.le_of_ble_eq_true rfl) dX6_factHere_1 ?_
  refine tw_lstore_n (lv' := [(1, .long x1), (0, .ref o)]) X dX6_factHere_4 rfl (by decide) rfl ?_
  refine tw_lload_n X dX6_factHere_5 rfl 0 rfl ?_
  refine tw_ldc2 (v := 8243) X q2083 dX6_factHere_6 ?_
  refine tw_lcmp X dX6_factHere_9 ?_
  refine tw_if_ne (tgt := 17) X dX6_factHere_10 rfl hf (fun q6 hf => ?_) (fun q6 hf => ?_)
  · clear q6
    refine tw_iconst (v := -1) X dX6_factHere_13 rfl ?_
    refine tw_goto (tgt := 70) X dX6_factHere_14 rfl ?_
    exact tw_iret X hr (Option.some.inj hf) rfl dX6_factHere_70
  · clear q6
    refine tw_lload_n X dX6_factHere_17 rfl 0 rfl ?_
    refine tw_ldc2 (v := 464036) X q2084 dX6_factHere_18 ?_
    refine tw_lcmp X dX6_factHere_21 ?_
    refine tw_if_ne (tgt := 30) X dX6_factHere_22 rfl hf (fun q5 hf => ?_) (fun q5 hf => ?_)
    · clear q5
      refine tw_bipush (v := -2) X dX6_factHere_25 rfl ?_
      refine tw_goto (tgt := 70) X dX6_factHere_27 rfl ?_
      exact tw_iret X hr (Option.some.inj hf) rfl dX6_factHere_70
    · clear q5
      refine tw_lload_n X dX6_factHere_30 rfl 0 rfl ?_
      refine tw_ldc2 (v := 3646931) X q2085 dX6_factHere_31 ?_
      refine tw_lcmp X dX6_factHere_34 ?_
      refine tw_if_ne (tgt := 43) X dX6_factHere_35 rfl hf (fun q4 hf => ?_) (fun q4 hf => ?_)
      · clear q4
        refine tw_bipush (v := -3) X dX6_factHere_38 rfl ?_
        refine tw_goto (tgt := 70) X dX6_factHere_40 rfl ?_
        exact tw_iret X hr (Option.some.inj hf) rfl dX6_factHere_70
      · clear q4
        refine tw_lload_n X dX6_factHere_43 rfl 0 rfl ?_
        refine tw_ldc2 (v := 24395141) X q2086 dX6_factHere_44 ?_
        refine tw_lcmp X dX6_factHere_47 ?_
        refine tw_if_ne (tgt := 56) X dX6_factHere_48 rfl hf (fun q3 hf => ?_) (fun q3 hf => ?_)
        · clear q3
          refine tw_bipush (v := -4) X dX6_factHere_51 rfl ?_
          refine tw_goto (tgt := 70) X dX6_factHere_53 rfl ?_
          exact tw_iret X hr (Option.some.inj hf) rfl dX6_factHere_70
        · clear q3
          refine tw_lload_n X dX6_factHere_56 rfl 0 rfl ?_
          refine tw_ldc2 (v := 492210354) X q2087 dX6_factHere_57 ?_
          refine tw_lcmp X dX6_factHere_60 ?_
          refine tw_if_ne (tgt := 69) X dX6_factHere_61 rfl hf (fun q2 hf => ?_) (fun q2 hf => ?_)
          · clear q2
            refine tw_bipush (v := -5) X dX6_factHere_64 rfl ?_
            refine tw_goto (tgt := 70) X dX6_factHere_66 rfl ?_
            exact tw_iret X hr (Option.some.inj hf) rfl dX6_factHere_70
          · clear q2
            refine tw_iconst (v := 0) X dX6_factHere_69 rfl ?_
            exact tw_iret X hr (Option.some.inj hf) rfl dX6_factHere_70
noncomputable def tF_writes (g : St) (a1 : Int32) : Option (St) :=
  if (g 0 32) = 0 then
    (wr g 1 340 ((138 : Int32) + (g 0 31)) a1).bind fun g1 =>
    (pf g1 0 31 ((g1 0 31) + (1 : Int32))).bind fun g2 =>
    some g2
  else
    some g
set_option maxHeartbeats 4000000 in
theorem tC_writes {l : Launch} {D : va_G} {A : Nat → Prop} {o : Nat} {ad : Nat → Nat} {dI : ClassId} {g : St} {a1 : Int32} {z : St} (hf : tF_writes g a1 = some z) : Ct l yX6_writes cX6_writes 2 none 0 0 D vwCl [(dI, .int)] A (tW o ad dI) [.ref o, .int a1] g (QV D vwCl A (tW o ad dI) z) := by
  unfold tF_writes at hf
  refine ct_intro (own := RX6) (lv0 := [(0, .ref o), (1, .int a1)]) (by decide) rfl (Nat.le_of_ble_eq_true rfl) rfl ?_
  intro p e s m args below meth c X hr
  refine tw_aload_n X dX6_writes_0 rfl 0 rfl ?_
  refine tg_isWrong X  dX6_writes_1 ?_
  refine tw_if_ne (tgt := 31) X dX6_writes_4 rfl hf (fun q3 hf => ?_) (fun q3 hf => ?_)
  · clear q3
    refine tw_aload_n X dX6_writes_7 rfl 0 rfl ?_
    refine tg_s X  dX6_writes_8 ?_
    refine tw_sipush (v := 138) X dX6_writes_11 rfl ?_
    refine tw_aload_n X dX6_writes_14 rfl 0 rfl ?_
    refine tg_coded X  dX6_writes_15 ?_
    refine tw_iadd X dX6_writes_18 ?_
    refine tw_iload_n X dX6_writes_19 rfl 1 rfl ?_
    obtain ⟨g1, hg1, hf⟩ := bnd hf
    refine ts_s X hg1 dX6_writes_20 ?_
    refine tw_aload_n X dX6_writes_21 rfl 0 rfl ?_
    refine tw_dup X dX6_writes_22 rfl ?_
    refine tg_coded X  dX6_writes_23 ?_
    refine tw_iconst (v := 1) X dX6_writes_26 rfl ?_
    refine tw_iadd X dX6_writes_27 ?_
    obtain ⟨g2, hg2, hf⟩ := bnd hf
    refine tp_coded X hg2 dX6_writes_28 ?_
    exact tw_vret X hr (Option.some.inj hf) dX6_writes_31
  · clear q3
    exact tw_vret X hr (Option.some.inj hf) dX6_writes_31
noncomputable def tF_isOne (a1 : Int32) : Int32 :=
  (tF_in (a1).toInt64 (0 : Int64) (3 : Int64))
set_option maxHeartbeats 4000000 in
theorem tC_isOne {l : Launch} {D : va_G} {A : Nat → Prop} {o : Nat} {ad : Nat → Nat} {dI : ClassId} {g : St} (a1 : Int32) : Ct l yX6_isOne cX6_isOne 1 (some .boolean) 1 25 D vwCl [(dI, .int)] A (tW o ad dI) [.int a1] g (QZ D vwCl A (tW o ad dI) (tF_isOne a1) g) := by
  generalize hf : tF_isOne a1 = z
  unfold tF_isOne at hf
  refine ct_intro (own := RX6) (lv0 := [(0, .int a1)]) (by decide) rfl (Nat.le_of_ble_eq_true rfl) rfl ?_
  intro p e s m args below meth c X hr
  refine tw_iload_n X dX6_isOne_0 rfl 0 rfl ?_
  refine tw_i2l X dX6_isOne_1 ?_
  refine tw_lconst (v := 0) X dX6_isOne_2 rfl ?_
  refine tw_ldc2 (v := 3) X q2108 dX6_isOne_3 ?_
  refine tw_callSz (As := [.long (a1).toInt64, .long (0 : Int64), .long (3 : Int64)]) (st := []) X (tC_in (g := g) (a1).toInt64 (0 : Int64) (3 : Int64)) tG_in tI_in ⟨Nat.le_of_ble_eq_true rfl, Nat.le_of_ble_eq_true rfl⟩ ⟨Nat.zero_le _, Nat.zero_le _⟩ rfl rfl (Nat.le_of_ble_eq_true rfl) dX6_isOne_6 ?_
  intro hb1
  exact tw_zret X hr hb1 hf rfl dX6_isOne_9
noncomputable def tF_narrowed (a1 : Int32) (a2 : Int32) : Int32 :=
  if a1 = 0 then
    (a2).toInt8.toInt32
  else
    if a1 = (1 : Int32) then
      (a2).toInt16.toInt32
    else
      if a1 = (4 : Int32) then
        if a2 = 0 then
          (0 : Int32)
        else
          (1 : Int32)
      else
        a2
set_option maxHeartbeats 4000000 in
theorem tC_narrowed {l : Launch} {D : va_G} {A : Nat → Prop} {o : Nat} {ad : Nat → Nat} {dI : ClassId} {g : St} (a1 : Int32) (a2 : Int32) : Ct l yX6_narrowed cX6_narrowed 2 (some .int) 0 0 D vwCl [(dI, .int)] A (tW o ad dI) [.int a1, .int a2] g (QI D vwCl A (tW o ad dI) (tF_narrowed a1 a2) g) := by
  generalize hf : tF_narrowed a1 a2 = z
  unfold tF_narrowed at hf
  refine ct_intro (own := RX6) (lv0 := [(0, .int a1), (1, .int a2)]) (by decide) rfl (Nat.le_of_ble_eq_true rfl) rfl ?_
  intro p e s m args below meth c X hr
  refine tw_iload_n X dX6_narrowed_0 rfl 0 rfl ?_
  refine tw_if_ne (tgt := 9) X dX6_narrowed_1 rfl hf (fun q4 hf => ?_) (fun q4 hf => ?_)
  · clear q4
    refine tw_iload_n X dX6_narrowed_4 rfl 1 rfl ?_
    refine tw_i2b X dX6_narrowed_5 ?_
    refine tw_goto (tgt := 37) X dX6_narrowed_6 rfl ?_
    exact tw_iret X hr hf rfl dX6_narrowed_37
  · clear q4
    refine tw_iload_n X dX6_narrowed_9 rfl 0 rfl ?_
    refine tw_iconst (v := 1) X dX6_narrowed_10 rfl ?_
    refine tw_icmp_ne (tgt := 19) X dX6_narrowed_11 rfl hf (fun q3 hf => ?_) (fun q3 hf => ?_)
    · clear q3
      refine tw_iload_n X dX6_narrowed_14 rfl 1 rfl ?_
      refine tw_i2s X dX6_narrowed_15 ?_
      refine tw_goto (tgt := 37) X dX6_narrowed_16 rfl ?_
      exact tw_iret X hr hf rfl dX6_narrowed_37
    · clear q3
      refine tw_iload_n X dX6_narrowed_19 rfl 0 rfl ?_
      refine tw_iconst (v := 4) X dX6_narrowed_20 rfl ?_
      refine tw_icmp_ne (tgt := 36) X dX6_narrowed_21 rfl hf (fun q2 hf => ?_) (fun q2 hf => ?_)
      · clear q2
        refine tw_iload_n X dX6_narrowed_24 rfl 1 rfl ?_
        refine tw_if_ne (tgt := 32) X dX6_narrowed_25 rfl hf (fun q1 hf => ?_) (fun q1 hf => ?_)
        · clear q1
          refine tw_iconst (v := 0) X dX6_narrowed_28 rfl ?_
          refine tw_goto (tgt := 37) X dX6_narrowed_29 rfl ?_
          exact tw_iret X hr hf rfl dX6_narrowed_37
        · clear q1
          refine tw_iconst (v := 1) X dX6_narrowed_32 rfl ?_
          refine tw_goto (tgt := 37) X dX6_narrowed_33 rfl ?_
          exact tw_iret X hr hf rfl dX6_narrowed_37
      · clear q2
        refine tw_iload_n X dX6_narrowed_36 rfl 1 rfl ?_
        exact tw_iret X hr hf rfl dX6_narrowed_37
noncomputable def tF_whyNot (g : St) (a1 : Int32) (a2 : Int32) : Option (Int32) :=
  (rd (g 34) 4 a1).bind fun x1 =>
  if 0 ≤ x1 then
    (rd (g 34) 4 a1).bind fun x2 =>
    if x2 = a2 then
      some (0 : Int32)
    else
      some (-13 : Int32)
  else
    some (-11 : Int32)
set_option maxHeartbeats 4000000 in
theorem tC_whyNot {l : Launch} {D : va_G} {A : Nat → Prop} {o : Nat} {ad : Nat → Nat} {dI : ClassId} {g : St} {a1 : Int32} {a2 : Int32} {z : Int32} (hf : tF_whyNot g a1 a2 = some z) : Ct l yX6_whyNot cX6_whyNot 3 (some .int) 0 0 D vwCl [(dI, .int)] A (tW o ad dI) [.ref o, .int a1, .int a2] g (QI D vwCl A (tW o ad dI) z g) := by
  unfold tF_whyNot at hf
  refine ct_intro (own := RX6) (lv0 := [(0, .ref o), (1, .int a1), (2, .int a2)]) (by decide) rfl (Nat.le_of_ble_eq_true rfl) rfl ?_
  intro p e s m args below meth c X hr
  refine tw_aload_n X dX6_whyNot_0 rfl 0 rfl ?_
  refine tg_sortOf X  dX6_whyNot_1 ?_
  refine tw_iload_n X dX6_whyNot_4 rfl 1 rfl ?_
  obtain ⟨x1, hx1, hf⟩ := bnd hf
  refine ta_sortOf X hx1 dX6_whyNot_5 ?_
  refine tw_if_ge (tgt := 14) X dX6_whyNot_6 rfl hf (fun q4 hf => ?_) (fun q4 hf => ?_)
  · clear q4
    refine tw_aload_n X dX6_whyNot_14 rfl 0 rfl ?_
    refine tg_sortOf X  dX6_whyNot_15 ?_
    refine tw_iload_n X dX6_whyNot_18 rfl 1 rfl ?_
    obtain ⟨x2, hx2, hf⟩ := bnd hf
    refine ta_sortOf X hx2 dX6_whyNot_19 ?_
    refine tw_iload_n X dX6_whyNot_20 rfl 2 rfl ?_
    refine tw_icmp_eq (tgt := 29) X dX6_whyNot_21 rfl hf (fun q3 hf => ?_) (fun q3 hf => ?_)
    · clear q3
      refine tw_iconst (v := 0) X dX6_whyNot_29 rfl ?_
      exact tw_iret X hr (Option.some.inj hf) rfl dX6_whyNot_30
    · clear q3
      refine tw_bipush (v := -13) X dX6_whyNot_24 rfl ?_
      refine tw_goto (tgt := 30) X dX6_whyNot_26 rfl ?_
      exact tw_iret X hr (Option.some.inj hf) rfl dX6_whyNot_30
  · clear q4
    refine tw_bipush (v := -11) X dX6_whyNot_9 rfl ?_
    refine tw_goto (tgt := 30) X dX6_whyNot_11 rfl ?_
    exact tw_iret X hr (Option.some.inj hf) rfl dX6_whyNot_30
noncomputable def tF_isSpan (a1 : Int32) (a2 : Int32) : Int32 :=
  if (tF_isOne a1) = 0 then
    (0 : Int32)
  else
    if (tF_in (a2).toInt64 (0 : Int64) (20 : Int64)) = 0 then
      (0 : Int32)
    else
      (1 : Int32)
set_option maxHeartbeats 4000000 in
theorem tC_isSpan {l : Launch} {D : va_G} {A : Nat → Prop} {o : Nat} {ad : Nat → Nat} {dI : ClassId} {g : St} (a1 : Int32) (a2 : Int32) : Ct l yX6_isSpan cX6_isSpan 3 (some .boolean) 2 45 D vwCl [(dI, .int)] A (tW o ad dI) [.ref o, .int a1, .int a2] g (QZ D vwCl A (tW o ad dI) (tF_isSpan a1 a2) g) := by
  generalize hf : tF_isSpan a1 a2 = z
  unfold tF_isSpan at hf
  refine ct_intro (own := RX6) (lv0 := [(0, .ref o), (1, .int a1), (2, .int a2)]) (by decide) rfl (Nat.le_of_ble_eq_true rfl) rfl ?_
  intro p e s m args below meth c X hr
  refine tw_iload_n X dX6_isSpan_0 rfl 1 rfl ?_
  refine tw_callSz (As := [.int a1]) (st := []) X (tC_isOne (g := g) a1) tG_isOne tI_isOne ⟨Nat.le_of_ble_eq_true rfl, Nat.le_of_ble_eq_true rfl⟩ ⟨Nat.zero_le _, Nat.zero_le _⟩ rfl rfl (Nat.le_of_ble_eq_true rfl) dX6_isSpan_1 ?_
  intro hb1
  refine tw_if_eq (tgt := 23) X dX6_isSpan_4 rfl hf (fun q4 hf => ?_) (fun q4 hf => ?_)
  · clear q4
    refine tw_iconst (v := 0) X dX6_isSpan_23 rfl ?_
    exact tw_zret X hr (Or.inl rfl) hf rfl dX6_isSpan_24
  · clear q4
    refine tw_iload_n X dX6_isSpan_7 rfl 2 rfl ?_
    refine tw_i2l X dX6_isSpan_8 ?_
    refine tw_lconst (v := 0) X dX6_isSpan_9 rfl ?_
    refine tw_ldc2 (v := 20) X q2133 dX6_isSpan_10 ?_
    refine tw_callSz (As := [.long (a2).toInt64, .long (0 : Int64), .long (20 : Int64)]) (st := []) X (tC_in (g := g) (a2).toInt64 (0 : Int64) (20 : Int64)) tG_in tI_in ⟨Nat.le_of_ble_eq_true rfl, Nat.le_of_ble_eq_true rfl⟩ ⟨Nat.zero_le _, Nat.zero_le _⟩ rfl rfl (Nat.le_of_ble_eq_true rfl) dX6_isSpan_13 ?_
    intro hb2
    refine tw_if_eq (tgt := 23) X dX6_isSpan_16 rfl hf (fun q3 hf => ?_) (fun q3 hf => ?_)
    · clear q3
      refine tw_iconst (v := 0) X dX6_isSpan_23 rfl ?_
      exact tw_zret X hr (Or.inl rfl) hf rfl dX6_isSpan_24
    · clear q3
      refine tw_iconst (v := 1) X dX6_isSpan_19 rfl ?_
      refine tw_goto (tgt := 24) X dX6_isSpan_20 rfl ?_
      exact tw_zret X hr (Or.inr rfl) hf rfl dX6_isSpan_24
noncomputable def tF_isItem (g : St) (a1 : Int32) (a2 : Int64) : Option (Int32) :=
  (rd (g 35) 4 a1).bind fun x1 =>
  some (tF_in a2 (0 : Int64) ((x1 - (1 : Int32))).toInt64)
set_option maxHeartbeats 4000000 in
theorem tC_isItem {l : Launch} {D : va_G} {A : Nat → Prop} {o : Nat} {ad : Nat → Nat} {dI : ClassId} {g : St} {a1 : Int32} {a2 : Int64} {z : Int32} (hf : tF_isItem g a1 a2 = some z) : Ct l yX6_isItem cX6_isItem 4 (some .boolean) 1 25 D vwCl [(dI, .int)] A (tW o ad dI) [.ref o, .int a1, .long a2] g (QZ D vwCl A (tW o ad dI) z g) := by
  unfold tF_isItem at hf
  refine ct_intro (own := RX6) (lv0 := [(0, .ref o), (1, .int a1), (2, .long a2)]) (by decide) rfl (Nat.le_of_ble_eq_true rfl) rfl ?_
  intro p e s m args below meth c X hr
  refine tw_lload_n X dX6_isItem_0 rfl 2 rfl ?_
  refine tw_lconst (v := 0) X dX6_isItem_1 rfl ?_
  refine tw_aload_n X dX6_isItem_2 rfl 0 rfl ?_
  refine tg_sizes X  dX6_isItem_3 ?_
  refine tw_iload_n X dX6_isItem_6 rfl 1 rfl ?_
  obtain ⟨x1, hx1, hf⟩ := bnd hf
  refine ta_sizes X hx1 dX6_isItem_7 ?_
  refine tw_iconst (v := 1) X dX6_isItem_8 rfl ?_
  refine tw_isub X dX6_isItem_9 ?_
  refine tw_i2l X dX6_isItem_10 ?_
  refine tw_callSz (As := [.long a2, .long (0 : Int64), .long ((x1 - (1 : Int32))).toInt64]) (st := []) X (tC_in (g := g) a2 (0 : Int64) ((x1 - (1 : Int32))).toInt64) tG_in tI_in ⟨Nat.le_of_ble_eq_true rfl, Nat.le_of_ble_eq_true rfl⟩ ⟨Nat.zero_le _, Nat.zero_le _⟩ rfl rfl (Nat.le_of_ble_eq_true rfl) dX6_isItem_11 ?_
  intro hb2
  exact tw_zret X hr hb2 (Option.some.inj hf) rfl dX6_isItem_14
noncomputable def tF_shelf (g : St) (a1 : Int32) (a2 : Int32) (a3 : Int32) : Option (Int32 × St) :=
  if (tF_isOne a1) = 0 then
    some ((-1 : Int32), g)
  else
    if (tF_in (a2).toInt64 (0 : Int64) (2 : Int64)) = 0 then
      some ((-1 : Int32), g)
    else
      jn (S := Unit) (T := Int32 × St)
        (if a2 = 0 then
          (tF_isPerson g a3).bind fun x35 =>
          if x35 = 0 then
            some (.inr ((-1 : Int32), g))
          else
            some (.inl ())
        else
          some (.inl ()))
        (fun j3 => jn (S := Unit) (T := Int32 × St)
          (if a2 = (1 : Int32) then
            if (tF_isOne a3) = 0 then
              some (.inr ((-1 : Int32), g))
            else
              some (.inl ())
          else
            some (.inl ()))
          (fun j5 => Option.bind (α := Int32) (β := Int32 × St)
            (if a2 = 0 then
              some (1 : Int32)
            else
              jn (S := Unit) (T := Int32)
                (if a2 = (1 : Int32) then
                  (rd (g 34) 4 a3).bind fun x23 =>
                  if x23 < 0 then
                    some (.inl ())
                  else
                    some (.inr (2 : Int32))
                else
                  some (.inl ()))
                (fun j21 => some (0 : Int32)))
            (fun j7 => (wr g 37 4 a1 j7).bind fun g9 =>
            Option.bind (α := Int32) (β := Int32 × St)
              (if a2 = 0 then
                some a3
              else
                if a2 = (1 : Int32) then
                  (rd (g9 35) 4 a3).bind fun x17 =>
                  some x17
                else
                  some (0 : Int32))
              (fun j10 => (wr g9 38 4 a1 j10).bind fun g12 =>
              if a2 = (1 : Int32) then
                (rd (g12 34) 4 a3).bind fun x13 =>
                (wr g12 39 4 a1 x13).bind fun g14 =>
                some ((1 : Int32), g14)
              else
                (wr g12 39 4 a1 (0 : Int32)).bind fun g15 =>
                some ((1 : Int32), g15)))))
set_option maxHeartbeats 4000000 in
theorem tC_shelf {l : Launch} {D : va_G} {A : Nat → Prop} {o : Nat} {ad : Nat → Nat} {dI : ClassId} {g : St} {a1 : Int32} {a2 : Int32} {a3 : Int32} {z : Int32 × St} (hf : tF_shelf g a1 a2 a3 = some z) : Ct l yX6_shelf cX6_shelf 4 (some .int) 2 46 D vwCl [(dI, .int)] A (tW o ad dI) [.ref o, .int a1, .int a2, .int a3] g (QI D vwCl A (tW o ad dI) z.1 z.2) := by
  unfold tF_shelf at hf
  refine ct_intro (own := RX6) (lv0 := [(0, .ref o), (1, .int a1), (2, .int a2), (3, .int a3)]) (by decide) rfl (Nat.le_of_ble_eq_true rfl) rfl ?_
  intro p e s m args below meth c X hr
  refine tw_iload_n X dX6_shelf_0 rfl 1 rfl ?_
  refine tw_callSz (As := [.int a1]) (st := []) X (tC_isOne (g := g) a1) tG_isOne tI_isOne ⟨Nat.le_of_ble_eq_true rfl, Nat.le_of_ble_eq_true rfl⟩ ⟨Nat.zero_le _, Nat.zero_le _⟩ rfl rfl (Nat.le_of_ble_eq_true rfl) dX6_shelf_1 ?_
  intro hb1
  refine tw_if_eq (tgt := 43) X dX6_shelf_4 rfl hf (fun q42 hf => ?_) (fun q42 hf => ?_)
  · clear q42
    refine tw_iconst (v := -1) X dX6_shelf_43 rfl ?_
    exact tw_iret X hr (prj1 hf) (prj2 hf) dX6_shelf_44
  · clear q42
    refine tw_iload_n X dX6_shelf_7 rfl 2 rfl ?_
    refine tw_i2l X dX6_shelf_8 ?_
    refine tw_lconst (v := 0) X dX6_shelf_9 rfl ?_
    refine tw_ldc2 (v := 2) X q1879 dX6_shelf_10 ?_
    refine tw_callSz (As := [.long (a2).toInt64, .long (0 : Int64), .long (2 : Int64)]) (st := []) X (tC_in (g := g) (a2).toInt64 (0 : Int64) (2 : Int64)) tG_in tI_in ⟨Nat.le_of_ble_eq_true rfl, Nat.le_of_ble_eq_true rfl⟩ ⟨Nat.zero_le _, Nat.zero_le _⟩ rfl rfl (Nat.le_of_ble_eq_true rfl) dX6_shelf_13 ?_
    intro hb2
    refine tw_if_eq (tgt := 43) X dX6_shelf_16 rfl hf (fun q41 hf => ?_) (fun q41 hf => ?_)
    · clear q41
      refine tw_iconst (v := -1) X dX6_shelf_43 rfl ?_
      exact tw_iret X hr (prj1 hf) (prj2 hf) dX6_shelf_44
    · clear q41
      refine tw_iload_n X dX6_shelf_19 rfl 2 rfl ?_
      refine jn_walk (P := fun j3 : Unit => TW p l e (rom 2 46) s m args below meth c (MQ below (QI D vwCl A (tW o ad dI) z.1 z.2) args s 0 0 A) D vwCl A (tW o ad dI) 4 0 0 g 31 [(0, .ref o), (1, .int a1), (2, .int a2), (3, .int a3)] []) hf ?_ ?_
      · intro j3 hf
        refine tw_iload_n X dX6_shelf_31 rfl 2 rfl ?_
        refine tw_iconst (v := 1) X dX6_shelf_32 rfl ?_
        refine jn_walk (P := fun j5 : Unit => TW p l e (rom 2 46) s m args below meth c (MQ below (QI D vwCl A (tW o ad dI) z.1 z.2) args s 0 0 A) D vwCl A (tW o ad dI) 4 0 0 g 45 [(0, .ref o), (1, .int a1), (2, .int a2), (3, .int a3)] []) hf ?_ ?_
        · intro j5 hf
          refine tw_aload_n X dX6_shelf_45 rfl 0 rfl ?_
          refine tg_lies X  dX6_shelf_46 ?_
          refine tw_iload_n X dX6_shelf_49 rfl 1 rfl ?_
          refine tw_iload_n X dX6_shelf_50 rfl 2 rfl ?_
          refine bj_walk (P := fun j7 : Int32 => TW p l e (rom 2 46) s m args below meth c (MQ below (QI D vwCl A (tW o ad dI) z.1 z.2) args s 0 0 A) D vwCl A (tW o ad dI) 4 0 0 g 77 [(0, .ref o), (1, .int a1), (2, .int a2), (3, .int a3)] [.int j7, .int a1, .ref (ad 36)]) hf ?_ ?_
          · intro j7 hf
            obtain ⟨g9, hg9, hf⟩ := bnd hf
            refine ts_lies X hg9 dX6_shelf_77 ?_
            refine tw_aload_n X dX6_shelf_78 rfl 0 rfl ?_
            refine tg_liesNumber X  dX6_shelf_79 ?_
            refine tw_iload_n X dX6_shelf_82 rfl 1 rfl ?_
            refine tw_iload_n X dX6_shelf_83 rfl 2 rfl ?_
            refine bj_walk (P := fun j10 : Int32 => TW p l e (rom 2 46) s m args below meth c (MQ below (QI D vwCl A (tW o ad dI) z.1 z.2) args s 0 0 A) D vwCl A (tW o ad dI) 4 0 0 g9 106 [(0, .ref o), (1, .int a1), (2, .int a2), (3, .int a3)] [.int j10, .int a1, .ref (ad 37)]) hf ?_ ?_
            · intro j10 hf
              obtain ⟨g12, hg12, hf⟩ := bnd hf
              refine ts_liesNumber X hg12 dX6_shelf_106 ?_
              refine tw_aload_n X dX6_shelf_107 rfl 0 rfl ?_
              refine tg_liesSort X  dX6_shelf_108 ?_
              refine tw_iload_n X dX6_shelf_111 rfl 1 rfl ?_
              refine tw_iload_n X dX6_shelf_112 rfl 2 rfl ?_
              refine tw_iconst (v := 1) X dX6_shelf_113 rfl ?_
              refine tw_icmp_ne (tgt := 126) X dX6_shelf_114 rfl hf (fun q16 hf => ?_) (fun q16 hf => ?_)
              · clear q16
                refine tw_aload_n X dX6_shelf_117 rfl 0 rfl ?_
                refine tg_sortOf X  dX6_shelf_118 ?_
                refine tw_iload_n X dX6_shelf_121 rfl 3 rfl ?_
                obtain ⟨x13, hx13, hf⟩ := bnd hf
                refine ta_sortOf X hx13 dX6_shelf_122 ?_
                refine tw_goto (tgt := 127) X dX6_shelf_123 rfl ?_
                obtain ⟨g14, hg14, hf⟩ := bnd hf
                refine ts_liesSort X hg14 dX6_shelf_127 ?_
                refine tw_iconst (v := 1) X dX6_shelf_128 rfl ?_
                exact tw_iret X hr (prj1 hf) (prj2 hf) dX6_shelf_129
              · clear q16
                refine tw_iconst (v := 0) X dX6_shelf_126 rfl ?_
                obtain ⟨g15, hg15, hf⟩ := bnd hf
                refine ts_liesSort X hg15 dX6_shelf_127 ?_
                refine tw_iconst (v := 1) X dX6_shelf_128 rfl ?_
                exact tw_iret X hr (prj1 hf) (prj2 hf) dX6_shelf_129
            · intro zz20 hf hk11
              refine tw_if_ne (tgt := 91) X dX6_shelf_84 rfl hf (fun q19 hf => ?_) (fun q19 hf => ?_)
              · clear q19
                refine tw_iload_n X dX6_shelf_87 rfl 3 rfl ?_
                refine tw_goto (tgt := 106) X dX6_shelf_88 rfl ?_
                have hL := hk11 _ hf
                exact hL
              · clear q19
                refine tw_iload_n X dX6_shelf_91 rfl 2 rfl ?_
                refine tw_iconst (v := 1) X dX6_shelf_92 rfl ?_
                refine tw_icmp_ne (tgt := 105) X dX6_shelf_93 rfl hf (fun q18 hf => ?_) (fun q18 hf => ?_)
                · clear q18
                  refine tw_aload_n X dX6_shelf_96 rfl 0 rfl ?_
                  refine tg_sizes X  dX6_shelf_97 ?_
                  refine tw_iload_n X dX6_shelf_100 rfl 3 rfl ?_
                  obtain ⟨x17, hx17, hf⟩ := bnd hf
                  refine ta_sizes X hx17 dX6_shelf_101 ?_
                  refine tw_goto (tgt := 106) X dX6_shelf_102 rfl ?_
                  have hL := hk11 _ hf
                  exact hL
                · clear q18
                  refine tw_iconst (v := 0) X dX6_shelf_105 rfl ?_
                  have hL := hk11 _ hf
                  exact hL
          · intro zz29 hf hk8
            refine tw_if_ne (tgt := 58) X dX6_shelf_51 rfl hf (fun q28 hf => ?_) (fun q28 hf => ?_)
            · clear q28
              refine tw_iconst (v := 1) X dX6_shelf_54 rfl ?_
              refine tw_goto (tgt := 77) X dX6_shelf_55 rfl ?_
              have hL := hk8 _ hf
              exact hL
            · clear q28
              refine tw_iload_n X dX6_shelf_58 rfl 2 rfl ?_
              refine tw_iconst (v := 1) X dX6_shelf_59 rfl ?_
              refine jn_walk (P := fun j21 : Unit => TW p l e (rom 2 46) s m args below meth c (MQ below (QI D vwCl A (tW o ad dI) z.1 z.2) args s 0 0 A) D vwCl A (tW o ad dI) 4 0 0 g 76 [(0, .ref o), (1, .int a1), (2, .int a2), (3, .int a3)] [.int a1, .ref (ad 36)]) hf ?_ ?_
              · intro j21 hf
                refine tw_iconst (v := 0) X dX6_shelf_76 rfl ?_
                have hL := hk8 _ hf
                exact hL
              · intro zz27 hf hk22
                refine tw_icmp_ne (tgt := 76) X dX6_shelf_60 rfl hf (fun q26 hf => ?_) (fun q26 hf => ?_)
                · clear q26
                  refine tw_aload_n X dX6_shelf_63 rfl 0 rfl ?_
                  refine tg_sortOf X  dX6_shelf_64 ?_
                  refine tw_iload_n X dX6_shelf_67 rfl 3 rfl ?_
                  obtain ⟨x23, hx23, hf⟩ := bnd hf
                  refine ta_sortOf X hx23 dX6_shelf_68 ?_
                  refine tw_if_lt (tgt := 76) X dX6_shelf_69 rfl hf (fun q25 hf => ?_) (fun q25 hf => ?_)
                  · clear q25
                    have hL := leafL hf hk22
                    exact hL
                  · clear q25
                    refine tw_iconst (v := 2) X dX6_shelf_72 rfl ?_
                    refine tw_goto (tgt := 77) X dX6_shelf_73 rfl ?_
                    have hf24 := leafR hf hk22
                    have hL := hk8 _ hf24
                    exact hL
                · clear q26
                  have hL := leafL hf hk22
                  exact hL
        · intro zz34 hf hk6
          refine tw_icmp_ne (tgt := 45) X dX6_shelf_33 rfl hf (fun q33 hf => ?_) (fun q33 hf => ?_)
          · clear q33
            refine tw_iload_n X dX6_shelf_36 rfl 3 rfl ?_
            refine tw_callSz (As := [.int a3]) (st := []) X (tC_isOne (g := g) a3) tG_isOne tI_isOne ⟨Nat.le_of_ble_eq_true rfl, Nat.le_of_ble_eq_true rfl⟩ ⟨Nat.zero_le _, Nat.zero_le _⟩ rfl rfl (Nat.le_of_ble_eq_true rfl) dX6_shelf_37 ?_
            intro hb30
            refine tw_if_ne (tgt := 45) X dX6_shelf_40 rfl hf (fun q32 hf => ?_) (fun q32 hf => ?_)
            · clear q32
              refine tw_iconst (v := -1) X dX6_shelf_43 rfl ?_
              have hf31 := leafR hf hk6
              exact tw_iret X hr (prj1 hf31) (prj2 hf31) dX6_shelf_44
            · clear q32
              have hL := leafL hf hk6
              exact hL
          · clear q33
            have hL := leafL hf hk6
            exact hL
      · intro zz40 hf hk4
        refine tw_if_ne (tgt := 31) X dX6_shelf_20 rfl hf (fun q39 hf => ?_) (fun q39 hf => ?_)
        · clear q39
          refine tw_aload_n X dX6_shelf_23 rfl 0 rfl ?_
          refine tw_iload_n X dX6_shelf_24 rfl 3 rfl ?_
          obtain ⟨x35, hx35, hf⟩ := bnd hf
          refine tw_callVz (As := [.int a3]) (st := []) X (tC_isPerson hx35) tG_isPerson tI_isPerson ⟨Nat.le_of_ble_eq_true rfl, Nat.le_of_ble_eq_true rfl⟩ ⟨Nat.zero_le _, Nat.zero_le _⟩ 0 rfl rfl rfl rfl (Nat.le_of_ble_eq_true rfl) dX6_shelf_25 ?_
          intro hb36
          refine tw_if_eq (tgt := 43) X dX6_shelf_28 rfl hf (fun q38 hf => ?_) (fun q38 hf => ?_)
          · clear q38
            refine tw_iconst (v := -1) X dX6_shelf_43 rfl ?_
            have hf37 := leafR hf hk4
            exact tw_iret X hr (prj1 hf37) (prj2 hf37) dX6_shelf_44
          · clear q38
            have hL := leafL hf hk4
            exact hL
        · clear q39
          have hL := leafL hf hk4
          exact hL
noncomputable def tF_onShelf (g : St) (a1 : Int32) : Option (Int32) :=
  if (tF_isOne a1) = 0 then
    some (-1 : Int32)
  else
    (rd (g 37) 4 a1).bind fun x2 =>
    if x2 = (1 : Int32) then
      (rd (g 38) 4 a1).bind fun x3 =>
      (tF_isPerson g x3).bind fun x4 =>
      if x4 = 0 then
        some (-1 : Int32)
      else
        (rd (g 38) 4 a1).bind fun x6 =>
        some x6
    else
      some (-1 : Int32)
set_option maxHeartbeats 4000000 in
theorem tC_onShelf {l : Launch} {D : va_G} {A : Nat → Prop} {o : Nat} {ad : Nat → Nat} {dI : ClassId} {g : St} {a1 : Int32} {z : Int32} (hf : tF_onShelf g a1 = some z) : Ct l yX6_onShelf cX6_onShelf 2 (some .int) 2 46 D vwCl [(dI, .int)] A (tW o ad dI) [.ref o, .int a1] g (QI D vwCl A (tW o ad dI) z g) := by
  unfold tF_onShelf at hf
  refine ct_intro (own := RX6) (lv0 := [(0, .ref o), (1, .int a1)]) (by decide) rfl (Nat.le_of_ble_eq_true rfl) rfl ?_
  intro p e s m args below meth c X hr
  refine tw_iload_n X dX6_onShelf_0 rfl 1 rfl ?_
  refine tw_callSz (As := [.int a1]) (st := []) X (tC_isOne (g := g) a1) tG_isOne tI_isOne ⟨Nat.le_of_ble_eq_true rfl, Nat.le_of_ble_eq_true rfl⟩ ⟨Nat.zero_le _, Nat.zero_le _⟩ rfl rfl (Nat.le_of_ble_eq_true rfl) dX6_onShelf_1 ?_
  intro hb1
  refine tw_if_eq (tgt := 39) X dX6_onShelf_4 rfl hf (fun q9 hf => ?_) (fun q9 hf => ?_)
  · clear q9
    refine tw_iconst (v := -1) X dX6_onShelf_39 rfl ?_
    exact tw_iret X hr (Option.some.inj hf) rfl dX6_onShelf_40
  · clear q9
    refine tw_aload_n X dX6_onShelf_7 rfl 0 rfl ?_
    refine tg_lies X  dX6_onShelf_8 ?_
    refine tw_iload_n X dX6_onShelf_11 rfl 1 rfl ?_
    obtain ⟨x2, hx2, hf⟩ := bnd hf
    refine ta_lies X hx2 dX6_onShelf_12 ?_
    refine tw_iconst (v := 1) X dX6_onShelf_13 rfl ?_
    refine tw_icmp_ne (tgt := 39) X dX6_onShelf_14 rfl hf (fun q8 hf => ?_) (fun q8 hf => ?_)
    · clear q8
      refine tw_aload_n X dX6_onShelf_17 rfl 0 rfl ?_
      refine tw_aload_n X dX6_onShelf_18 rfl 0 rfl ?_
      refine tg_liesNumber X  dX6_onShelf_19 ?_
      refine tw_iload_n X dX6_onShelf_22 rfl 1 rfl ?_
      obtain ⟨x3, hx3, hf⟩ := bnd hf
      refine ta_liesNumber X hx3 dX6_onShelf_23 ?_
      obtain ⟨x4, hx4, hf⟩ := bnd hf
      refine tw_callVz (As := [.int x3]) (st := []) X (tC_isPerson hx4) tG_isPerson tI_isPerson ⟨Nat.le_of_ble_eq_true rfl, Nat.le_of_ble_eq_true rfl⟩ ⟨Nat.zero_le _, Nat.zero_le _⟩ 0 rfl rfl rfl rfl (Nat.le_of_ble_eq_true rfl) dX6_onShelf_24 ?_
      intro hb5
      refine tw_if_eq (tgt := 39) X dX6_onShelf_27 rfl hf (fun q7 hf => ?_) (fun q7 hf => ?_)
      · clear q7
        refine tw_iconst (v := -1) X dX6_onShelf_39 rfl ?_
        exact tw_iret X hr (Option.some.inj hf) rfl dX6_onShelf_40
      · clear q7
        refine tw_aload_n X dX6_onShelf_30 rfl 0 rfl ?_
        refine tg_liesNumber X  dX6_onShelf_31 ?_
        refine tw_iload_n X dX6_onShelf_34 rfl 1 rfl ?_
        obtain ⟨x6, hx6, hf⟩ := bnd hf
        refine ta_liesNumber X hx6 dX6_onShelf_35 ?_
        refine tw_goto (tgt := 40) X dX6_onShelf_36 rfl ?_
        exact tw_iret X hr (Option.some.inj hf) rfl dX6_onShelf_40
    · clear q8
      refine tw_iconst (v := -1) X dX6_onShelf_39 rfl ?_
      exact tw_iret X hr (Option.some.inj hf) rfl dX6_onShelf_40
noncomputable def tF_runs (g : St) (a1 : Int32) : Option (St) :=
  if (g 0 44) = 0 then
    Option.bind (α := St) (β := St)
      (if (30 : Int32) ≤ (g 0 40) then
        some g
      else
        (wr g 40 30 (g 0 40) a1).bind fun g4 =>
        some g4)
      (fun j1 => (pf j1 0 40 ((j1 0 40) + (1 : Int32))).bind fun g3 =>
      some g3)
  else
    some g
set_option maxHeartbeats 4000000 in
theorem tC_runs {l : Launch} {D : va_G} {A : Nat → Prop} {o : Nat} {ad : Nat → Nat} {dI : ClassId} {g : St} {a1 : Int32} {z : St} (hf : tF_runs g a1 = some z) : Ct l yX6_runs cX6_runs 2 none 0 0 D vwCl [(dI, .int)] A (tW o ad dI) [.ref o, .int a1] g (QV D vwCl A (tW o ad dI) z) := by
  unfold tF_runs at hf
  refine ct_intro (own := RX6) (lv0 := [(0, .ref o), (1, .int a1)]) (by decide) rfl (Nat.le_of_ble_eq_true rfl) rfl ?_
  intro p e s m args below meth c X hr
  refine tw_aload_n X dX6_runs_0 rfl 0 rfl ?_
  refine tg_isParted X  dX6_runs_1 ?_
  refine tw_if_ne (tgt := 36) X dX6_runs_4 rfl hf (fun q7 hf => ?_) (fun q7 hf => ?_)
  · clear q7
    refine tw_aload_n X dX6_runs_7 rfl 0 rfl ?_
    refine tg_bodies X  dX6_runs_8 ?_
    refine tw_bipush (v := 30) X dX6_runs_11 rfl ?_
    refine bj_walk (P := fun j1 : St => TW p l e (rom 0 0) s m args below meth c (MQ below (QV D vwCl A (tW o ad dI) z) args s 0 0 A) D vwCl A (tW o ad dI) 2 0 0 j1 26 [(0, .ref o)] []) hf ?_ ?_
    · intro j1 hf
      refine tw_aload_n X dX6_runs_26 rfl 0 rfl ?_
      refine tw_dup X dX6_runs_27 rfl ?_
      refine tg_bodies X  dX6_runs_28 ?_
      refine tw_iconst (v := 1) X dX6_runs_31 rfl ?_
      refine tw_iadd X dX6_runs_32 ?_
      obtain ⟨g3, hg3, hf⟩ := bnd hf
      refine tp_bodies X hg3 dX6_runs_33 ?_
      exact tw_vret X hr (Option.some.inj hf) dX6_runs_36
    · intro zz6 hf hk2
      refine tw_icmp_ge (tgt := 26) X dX6_runs_13 rfl hf (fun q5 hf => ?_) (fun q5 hf => ?_)
      · clear q5
        refine tw_sub [0] (lv' := [(0, .ref o)]) rfl ?_
        have hL := hk2 _ hf
        exact hL
      · clear q5
        refine tw_aload_n X dX6_runs_16 rfl 0 rfl ?_
        refine tg_ran X  dX6_runs_17 ?_
        refine tw_aload_n X dX6_runs_20 rfl 0 rfl ?_
        refine tg_bodies X  dX6_runs_21 ?_
        refine tw_iload_n X dX6_runs_24 rfl 1 rfl ?_
        obtain ⟨g4, hg4, hf⟩ := bnd hf
        refine ts_ran X hg4 dX6_runs_25 ?_
        refine tw_sub [0] (lv' := [(0, .ref o)]) rfl ?_
        have hL := hk2 _ hf
        exact hL
  · clear q7
    exact tw_vret X hr (Option.some.inj hf) dX6_runs_36
noncomputable def tF_plainHalves (g : St) (a1 : Int32) : Option (Int32 × St) :=
  (tF_runs g (12 : Int32)).bind fun g1 =>
  if (g1 0 42) = (g1 0 41) then
    (pf g1 0 44 (1 : Int32)).bind fun g2 =>
    some ((0 : Int32), g2)
  else
    (dv a1 ((g1 0 42) - (g1 0 41))).bind fun x3 =>
    some (x3, g1)
set_option maxHeartbeats 4000000 in
theorem tC_plainHalves {l : Launch} {D : va_G} {A : Nat → Prop} {o : Nat} {ad : Nat → Nat} {dI : ClassId} {g : St} {a1 : Int32} {z : Int32 × St} (hf : tF_plainHalves g a1 = some z) : Ct l yX6_plainHalves cX6_plainHalves 2 (some .int) 1 21 D vwCl [(dI, .int)] A (tW o ad dI) [.ref o, .int a1] g (QI D vwCl A (tW o ad dI) z.1 z.2) := by
  unfold tF_plainHalves at hf
  refine ct_intro (own := RX6) (lv0 := [(0, .ref o), (1, .int a1)]) (by decide) rfl (Nat.le_of_ble_eq_true rfl) rfl ?_
  intro p e s m args below meth c X hr
  refine tw_aload_n X dX6_plainHalves_0 rfl 0 rfl ?_
  refine tw_bipush (v := 12) X dX6_plainHalves_1 rfl ?_
  obtain ⟨g1, hg1, hf⟩ := bnd hf
  refine tw_callVv (As := [.int (12 : Int32)]) (st := []) X (tC_runs hg1) tG_runs tI_runs ⟨Nat.le_of_ble_eq_true rfl, Nat.le_of_ble_eq_true rfl⟩ ⟨Nat.zero_le _, Nat.zero_le _⟩ 0 rfl rfl rfl rfl (Nat.le_of_ble_eq_true rfl) dX6_plainHalves_3 ?_
  refine tw_aload_n X dX6_plainHalves_6 rfl 0 rfl ?_
  refine tg_about X  dX6_plainHalves_7 ?_
  refine tw_aload_n X dX6_plainHalves_10 rfl 0 rfl ?_
  refine tg_acting X  dX6_plainHalves_11 ?_
  refine tw_icmp_ne (tgt := 24) X dX6_plainHalves_14 rfl hf (fun q4 hf => ?_) (fun q4 hf => ?_)
  · clear q4
    refine tw_aload_n X dX6_plainHalves_17 rfl 0 rfl ?_
    refine tw_iconst (v := 1) X dX6_plainHalves_18 rfl ?_
    obtain ⟨g2, hg2, hf⟩ := bnd hf
    refine tp_isParted X (Or.inr rfl) hg2 dX6_plainHalves_19 ?_
    refine tw_iconst (v := 0) X dX6_plainHalves_22 rfl ?_
    exact tw_iret X hr (prj1 hf) (prj2 hf) dX6_plainHalves_23
  · clear q4
    refine tw_iload_n X dX6_plainHalves_24 rfl 1 rfl ?_
    refine tw_aload_n X dX6_plainHalves_25 rfl 0 rfl ?_
    refine tg_about X  dX6_plainHalves_26 ?_
    refine tw_aload_n X dX6_plainHalves_29 rfl 0 rfl ?_
    refine tg_acting X  dX6_plainHalves_30 ?_
    refine tw_isub X dX6_plainHalves_33 ?_
    obtain ⟨x3, hx3, hf⟩ := bnd hf
    refine tw_idivV X dX6_plainHalves_34 hx3 ?_
    exact tw_iret X hr (prj1 hf) (prj2 hf) dX6_plainHalves_35
noncomputable def tF_traced (g : St) : Option (Int32) :=
  if (30 : Int32) ≤ (g 0 40) then
    some (30 : Int32)
  else
    some (g 0 40)
set_option maxHeartbeats 4000000 in
theorem tC_traced {l : Launch} {D : va_G} {A : Nat → Prop} {o : Nat} {ad : Nat → Nat} {dI : ClassId} {g : St} {z : Int32} (hf : tF_traced g = some z) : Ct l yX6_traced cX6_traced 1 (some .int) 0 0 D vwCl [(dI, .int)] A (tW o ad dI) [.ref o] g (QI D vwCl A (tW o ad dI) z g) := by
  unfold tF_traced at hf
  refine ct_intro (own := RX6) (lv0 := [(0, .ref o)]) (by decide) rfl (Nat.le_of_ble_eq_true rfl) rfl ?_
  intro p e s m args below meth c X hr
  refine tw_aload_n X dX6_traced_0 rfl 0 rfl ?_
  refine tg_bodies X  dX6_traced_1 ?_
  refine tw_bipush (v := 30) X dX6_traced_4 rfl ?_
  refine tw_icmp_ge (tgt := 16) X dX6_traced_6 rfl hf (fun q1 hf => ?_) (fun q1 hf => ?_)
  · clear q1
    refine tw_bipush (v := 30) X dX6_traced_16 rfl ?_
    exact tw_iret X hr (Option.some.inj hf) rfl dX6_traced_18
  · clear q1
    refine tw_aload_n X dX6_traced_9 rfl 0 rfl ?_
    refine tg_bodies X  dX6_traced_10 ?_
    refine tw_goto (tgt := 18) X dX6_traced_13 rfl ?_
    exact tw_iret X hr (Option.some.inj hf) rfl dX6_traced_18
noncomputable def tF_many (g : St) (a1 : Int32) : Option (Int32) :=
  if a1 = (0 : Int32) then
    (rd (g 1) 340 (0 : Int32)).bind fun x1 =>
    some x1
  else if a1 = (1 : Int32) then
    (rd (g 1) 340 (1 : Int32)).bind fun x3 =>
    some x3
  else if a1 = (2 : Int32) then
    (rd (g 1) 340 (4 : Int32)).bind fun x5 =>
    some x5
  else if a1 = (3 : Int32) then
    (rd (g 1) 340 (3 : Int32)).bind fun x7 =>
    some x7
  else if a1 = (4 : Int32) then
    some (g 0 24)
  else if a1 = (5 : Int32) then
    some (g 0 26)
  else if a1 = (6 : Int32) then
    (tF_traced g).bind fun x11 =>
    some x11
  else 
    some (-1 : Int32)
set_option maxHeartbeats 4000000 in
theorem tC_many {l : Launch} {D : va_G} {A : Nat → Prop} {o : Nat} {ad : Nat → Nat} {dI : ClassId} {g : St} {a1 : Int32} {z : Int32} (hf : tF_many g a1 = some z) : Ct l yX6_many cX6_many 2 (some .int) 1 20 D vwCl [(dI, .int)] A (tW o ad dI) [.ref o, .int a1] g (QI D vwCl A (tW o ad dI) z g) := by
  unfold tF_many at hf
  refine ct_intro (own := RX6) (lv0 := [(0, .ref o), (1, .int a1)]) (by decide) rfl (Nat.le_of_ble_eq_true rfl) rfl ?_
  intro p e s m args below meth c X hr
  refine tw_iload_n X dX6_many_0 rfl 1 rfl ?_
  by_cases w2 : a1 = (0 : Int32)
  · rw [if_pos w2] at hf
    refine tw_tableIn (off := 43) (tgt := 44) X dX6_many_1 w2 (by decide) (by decide) rfl rfl ?_
    refine tw_aload_n X dX6_many_44 rfl 0 rfl ?_
    refine tg_s X  dX6_many_45 ?_
    refine tw_iconst (v := 0) X dX6_many_48 rfl ?_
    obtain ⟨x1, hx1, hf⟩ := bnd hf
    refine ta_s X hx1 dX6_many_49 ?_
    exact tw_iret X hr (Option.some.inj hf) rfl dX6_many_50
  · rw [if_neg w2] at hf
    by_cases w4 : a1 = (1 : Int32)
    · rw [if_pos w4] at hf
      refine tw_tableIn (off := 50) (tgt := 51) X dX6_many_1 w4 (by decide) (by decide) rfl rfl ?_
      refine tw_aload_n X dX6_many_51 rfl 0 rfl ?_
      refine tg_s X  dX6_many_52 ?_
      refine tw_iconst (v := 1) X dX6_many_55 rfl ?_
      obtain ⟨x3, hx3, hf⟩ := bnd hf
      refine ta_s X hx3 dX6_many_56 ?_
      exact tw_iret X hr (Option.some.inj hf) rfl dX6_many_57
    · rw [if_neg w4] at hf
      by_cases w6 : a1 = (2 : Int32)
      · rw [if_pos w6] at hf
        refine tw_tableIn (off := 57) (tgt := 58) X dX6_many_1 w6 (by decide) (by decide) rfl rfl ?_
        refine tw_aload_n X dX6_many_58 rfl 0 rfl ?_
        refine tg_s X  dX6_many_59 ?_
        refine tw_iconst (v := 4) X dX6_many_62 rfl ?_
        obtain ⟨x5, hx5, hf⟩ := bnd hf
        refine ta_s X hx5 dX6_many_63 ?_
        exact tw_iret X hr (Option.some.inj hf) rfl dX6_many_64
      · rw [if_neg w6] at hf
        by_cases w8 : a1 = (3 : Int32)
        · rw [if_pos w8] at hf
          refine tw_tableIn (off := 64) (tgt := 65) X dX6_many_1 w8 (by decide) (by decide) rfl rfl ?_
          refine tw_aload_n X dX6_many_65 rfl 0 rfl ?_
          refine tg_s X  dX6_many_66 ?_
          refine tw_iconst (v := 3) X dX6_many_69 rfl ?_
          obtain ⟨x7, hx7, hf⟩ := bnd hf
          refine ta_s X hx7 dX6_many_70 ?_
          exact tw_iret X hr (Option.some.inj hf) rfl dX6_many_71
        · rw [if_neg w8] at hf
          by_cases w9 : a1 = (4 : Int32)
          · rw [if_pos w9] at hf
            refine tw_tableIn (off := 71) (tgt := 72) X dX6_many_1 w9 (by decide) (by decide) rfl rfl ?_
            refine tw_aload_n X dX6_many_72 rfl 0 rfl ?_
            refine tg_rowMany X  dX6_many_73 ?_
            exact tw_iret X hr (Option.some.inj hf) rfl dX6_many_76
          · rw [if_neg w9] at hf
            by_cases w10 : a1 = (5 : Int32)
            · rw [if_pos w10] at hf
              refine tw_tableIn (off := 76) (tgt := 77) X dX6_many_1 w10 (by decide) (by decide) rfl rfl ?_
              refine tw_aload_n X dX6_many_77 rfl 0 rfl ?_
              refine tg_taped X  dX6_many_78 ?_
              exact tw_iret X hr (Option.some.inj hf) rfl dX6_many_81
            · rw [if_neg w10] at hf
              by_cases w12 : a1 = (6 : Int32)
              · rw [if_pos w12] at hf
                refine tw_tableIn (off := 81) (tgt := 82) X dX6_many_1 w12 (by decide) (by decide) rfl rfl ?_
                refine tw_aload_n X dX6_many_82 rfl 0 rfl ?_
                obtain ⟨x11, hx11, hf⟩ := bnd hf
                refine tw_callVi (As := []) (st := []) X (tC_traced hx11) tG_traced tI_traced ⟨Nat.le_of_ble_eq_true rfl, Nat.le_of_ble_eq_true rfl⟩ ⟨Nat.zero_le _, Nat.zero_le _⟩ 0 rfl rfl rfl rfl (Nat.le_of_ble_eq_true rfl) dX6_many_83 ?_
                exact tw_iret X hr (Option.some.inj hf) rfl dX6_many_86
              · rw [if_neg w12] at hf
                refine tw_tableOut (tgt := 87) X dX6_many_1 (by have w2' : a1.toInt ≠ 0 := i32_ne w2; have w4' : a1.toInt ≠ 1 := i32_ne w4; have w6' : a1.toInt ≠ 2 := i32_ne w6; have w8' : a1.toInt ≠ 3 := i32_ne w8; have w9' : a1.toInt ≠ 4 := i32_ne w9; have w10' : a1.toInt ≠ 5 := i32_ne w10; have w12' : a1.toInt ≠ 6 := i32_ne w12; omega) rfl ?_
                refine tw_iconst (v := -1) X dX6_many_87 rfl ?_
                exact tw_iret X hr (Option.some.inj hf) rfl dX6_many_88
