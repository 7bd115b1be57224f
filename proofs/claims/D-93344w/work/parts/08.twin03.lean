/-! THE TWIN's METHODS: a function and a contract each (printed by gen/mk_twin.py) -/
set_option maxRecDepth 100000
noncomputable def tF_kindHere (g : St) : Option (Int32) :=
  (tF_word g).bind fun x1 =>
  if (lg_cmp x1 (542723566 : Int64)) = 0 then
    some (0 : Int32)
  else
    if (lg_cmp x1 (427300 : Int64)) = 0 then
      some (1 : Int32)
    else
      if (lg_cmp x1 (13946034 : Int64)) = 0 then
        some (2 : Int32)
      else
        if (lg_cmp x1 (24416759 : Int64)) = 0 then
          some (3 : Int32)
        else
          if (lg_cmp x1 (556054629 : Int64)) = 0 then
            some (4 : Int32)
          else
            if (lg_cmp x1 (2262644 : Int64)) = 0 then
              some (5 : Int32)
            else
              some (-1 : Int32)
set_option maxHeartbeats 4000000 in
theorem tC_kindHere {l : Launch} {D : va_G} {A : Nat → Prop} {o : Nat} {ad : Nat → Nat} {dI : ClassId} {g : St} {z : Int32} (hf : tF_kindHere g = some z) : Ct l yX6_kindHere cX6_kindHere 3 (some .int) 3 68 D vwCl [(dI, .int)] A (tW o ad dI) [.ref o] g (QI D vwCl A (tW o ad dI) z g) := by
  unfold tF_kindHere at hf
  refine ct_intro (own := RX6) (lv0 := [(0, .ref o)]) (by decide) rfl (Nat.le_of_ble_eq_true rfl) rfl ?_
  intro p e s m args below meth c X hr
  refine tw_aload_n X dX6_kindHere_0 rfl 0 rfl ?_
  obtain ⟨x1, hx1, hf⟩ := bnd hf
  refine tw_callVl (As := []) (st := []) X (tC_word hx1) tG_word tI_word ⟨Nat.le_of_ble_eq_true rfl, Nat.le_of_ble_eq_true rfl⟩ ⟨Nat.zero_le _, Nat.zero_le _⟩ 0 rfl rfl rfl rfl (Nat.le_of_ble_eq_true rfl) dX6_kindHere_1 ?_
  refine tw_lstore_n (lv' := [(1, .long x1), (0, .ref o)]) X dX6_kindHere_4 rfl (by decide) rfl ?_
  refine tw_lload_n X dX6_kindHere_5 rfl 0 rfl ?_
  refine tw_ldc2 (v := 542723566) X q2047 dX6_kindHere_6 ?_
  refine tw_lcmp X dX6_kindHere_9 ?_
  refine tw_if_ne (tgt := 17) X dX6_kindHere_10 rfl hf (fun q7 hf => ?_) (fun q7 hf => ?_)
  · clear q7
    refine tw_iconst (v := 0) X dX6_kindHere_13 rfl ?_
    refine tw_goto (tgt := 78) X dX6_kindHere_14 rfl ?_
    exact tw_iret X hr (Option.some.inj hf) rfl dX6_kindHere_78
  · clear q7
    refine tw_lload_n X dX6_kindHere_17 rfl 0 rfl ?_
    refine tw_ldc2 (v := 427300) X q2048 dX6_kindHere_18 ?_
    refine tw_lcmp X dX6_kindHere_21 ?_
    refine tw_if_ne (tgt := 29) X dX6_kindHere_22 rfl hf (fun q6 hf => ?_) (fun q6 hf => ?_)
    · clear q6
      refine tw_iconst (v := 1) X dX6_kindHere_25 rfl ?_
      refine tw_goto (tgt := 78) X dX6_kindHere_26 rfl ?_
      exact tw_iret X hr (Option.some.inj hf) rfl dX6_kindHere_78
    · clear q6
      refine tw_lload_n X dX6_kindHere_29 rfl 0 rfl ?_
      refine tw_ldc2 (v := 13946034) X q2049 dX6_kindHere_30 ?_
      refine tw_lcmp X dX6_kindHere_33 ?_
      refine tw_if_ne (tgt := 41) X dX6_kindHere_34 rfl hf (fun q5 hf => ?_) (fun q5 hf => ?_)
      · clear q5
        refine tw_iconst (v := 2) X dX6_kindHere_37 rfl ?_
        refine tw_goto (tgt := 78) X dX6_kindHere_38 rfl ?_
        exact tw_iret X hr (Option.some.inj hf) rfl dX6_kindHere_78
      · clear q5
        refine tw_lload_n X dX6_kindHere_41 rfl 0 rfl ?_
        refine tw_ldc2 (v := 24416759) X q2050 dX6_kindHere_42 ?_
        refine tw_lcmp X dX6_kindHere_45 ?_
        refine tw_if_ne (tgt := 53) X dX6_kindHere_46 rfl hf (fun q4 hf => ?_) (fun q4 hf => ?_)
        · clear q4
          refine tw_iconst (v := 3) X dX6_kindHere_49 rfl ?_
          refine tw_goto (tgt := 78) X dX6_kindHere_50 rfl ?_
          exact tw_iret X hr (Option.some.inj hf) rfl dX6_kindHere_78
        · clear q4
          refine tw_lload_n X dX6_kindHere_53 rfl 0 rfl ?_
          refine tw_ldc2 (v := 556054629) X q2051 dX6_kindHere_54 ?_
          refine tw_lcmp X dX6_kindHere_57 ?_
          refine tw_if_ne (tgt := 65) X dX6_kindHere_58 rfl hf (fun q3 hf => ?_) (fun q3 hf => ?_)
          · clear q3
            refine tw_iconst (v := 4) X dX6_kindHere_61 rfl ?_
            refine tw_goto (tgt := 78) X dX6_kindHere_62 rfl ?_
            exact tw_iret X hr (Option.some.inj hf) rfl dX6_kindHere_78
          · clear q3
            refine tw_lload_n X dX6_kindHere_65 rfl 0 rfl ?_
            refine tw_ldc2 (v := 2262644) X q2052 dX6_kindHere_66 ?_
            refine tw_lcmp X dX6_kindHere_69 ?_
            refine tw_if_ne (tgt := 77) X dX6_kindHere_70 rfl hf (fun q2 hf => ?_) (fun q2 hf => ?_)
            · clear q2
              refine tw_iconst (v := 5) X dX6_kindHere_73 rfl ?_
              refine tw_goto (tgt := 78) X dX6_kindHere_74 rfl ?_
              exact tw_iret X hr (Option.some.inj hf) rfl dX6_kindHere_78
            · clear q2
              refine tw_iconst (v := -1) X dX6_kindHere_77 rfl ?_
              exact tw_iret X hr (Option.some.inj hf) rfl dX6_kindHere_78
noncomputable def tF_wants (g : St) (a1 : Int32) : Option (St) :=
  Option.bind (α := Int32) (β := St)
    (if (g 0 32) = 0 then
      if a1 = 0 then
        some (1 : Int32)
      else
        some (0 : Int32)
    else
      some (1 : Int32))
    (fun j1 => (zok j1).bind fun u3 =>
    (pf g 0 32 j1).bind fun g4 =>
    if (g4 0 32) = 0 then
      (tF_token g4).bind fun g5 =>
      some g5
    else
      some g4)
set_option maxHeartbeats 4000000 in
theorem tC_wants {l : Launch} {D : va_G} {A : Nat → Prop} {o : Nat} {ad : Nat → Nat} {dI : ClassId} {g : St} {a1 : Int32} {z : St} (hf : tF_wants g a1 = some z) : Ct l yX6_wants cX6_wants 2 none 3 67 D vwCl [(dI, .int)] A (tW o ad dI) [.ref o, .int a1] g (QV D vwCl A (tW o ad dI) z) := by
  unfold tF_wants at hf
  refine ct_intro (own := RX6) (lv0 := [(0, .ref o), (1, .int a1)]) (by decide) rfl (Nat.le_of_ble_eq_true rfl) rfl ?_
  intro p e s m args below meth c X hr
  refine tw_aload_n X dX6_wants_0 rfl 0 rfl ?_
  refine tw_aload_n X dX6_wants_1 rfl 0 rfl ?_
  refine tg_isWrong X  dX6_wants_2 ?_
  refine bj_walk (P := fun j1 : Int32 => TW p l e (rom 3 67) s m args below meth c (MQ below (QV D vwCl A (tW o ad dI) z) args s 0 0 A) D vwCl A (tW o ad dI) 2 0 0 g 17 [(0, .ref o)] [.int j1, .ref o]) hf ?_ ?_
  · intro j1 hf
    obtain ⟨u3, hu3, hf⟩ := bnd hf
    obtain ⟨g4, hg4, hf⟩ := bnd hf
    refine tp_isWrong X (zok_in hu3) hg4 dX6_wants_17 ?_
    refine tw_aload_n X dX6_wants_20 rfl 0 rfl ?_
    refine tg_isWrong X  dX6_wants_21 ?_
    refine tw_if_ne (tgt := 31) X dX6_wants_24 rfl hf (fun q6 hf => ?_) (fun q6 hf => ?_)
    · clear q6
      refine tw_aload_n X dX6_wants_27 rfl 0 rfl ?_
      obtain ⟨g5, hg5, hf⟩ := bnd hf
      refine tw_callVv (As := []) (st := []) X (tC_token hg5) tG_token tI_token ⟨Nat.le_of_ble_eq_true rfl, Nat.le_of_ble_eq_true rfl⟩ ⟨Nat.zero_le _, Nat.zero_le _⟩ 0 rfl rfl rfl rfl (Nat.le_of_ble_eq_true rfl) dX6_wants_28 ?_
      exact tw_vret X hr (Option.some.inj hf) dX6_wants_31
    · clear q6
      exact tw_vret X hr (Option.some.inj hf) dX6_wants_31
  · intro zz9 hf hk2
    refine tw_if_ne (tgt := 12) X dX6_wants_5 rfl hf (fun q8 hf => ?_) (fun q8 hf => ?_)
    · clear q8
      refine tw_iload_n X dX6_wants_8 rfl 1 rfl ?_
      refine tw_if_ne (tgt := 16) X dX6_wants_9 rfl hf (fun q7 hf => ?_) (fun q7 hf => ?_)
      · clear q7
        refine tw_iconst (v := 1) X dX6_wants_12 rfl ?_
        refine tw_goto (tgt := 17) X dX6_wants_13 rfl ?_
        refine tw_sub [0] (lv' := [(0, .ref o)]) rfl ?_
        have hL := hk2 _ hf
        exact hL
      · clear q7
        refine tw_iconst (v := 0) X dX6_wants_16 rfl ?_
        refine tw_sub [0] (lv' := [(0, .ref o)]) rfl ?_
        have hL := hk2 _ hf
        exact hL
    · clear q8
      refine tw_iconst (v := 1) X dX6_wants_12 rfl ?_
      refine tw_goto (tgt := 17) X dX6_wants_13 rfl ?_
      refine tw_sub [0] (lv' := [(0, .ref o)]) rfl ?_
      have hL := hk2 _ hf
      exact hL
noncomputable def tF_number (g : St) (a1 : Int32) : Option (St) :=
  (tF_byteAt g (g 0 27)).bind fun x1 =>
  Option.bind (α := Int32) (β := St)
    (if (tF_isDigit x1) = 0 then
      some (0 : Int32)
    else
      if (5 : Int32) ≤ ((g 0 28) - (g 0 27)) then
        some (0 : Int32)
      else
        some (1 : Int32))
    (fun j3 => (pf g 0 29 (0 : Int32)).bind fun g5 =>
    Option.bind (α := St) (β := St)
      (iter (L := St × Int32) (T := St) (un2 fun s14a s14b => 
        if (s14a 0 28) ≤ s14b then
          some (.inr s14a)
        else
          if j3 = 0 then
            some (.inr s14a)
          else
            (rd (s14a 26) 200 s14b).bind fun x18 =>
            (pf s14a 0 29 ((((10 : Int32) * (s14a 0 29)) + x18) - (48 : Int32))).bind fun g19 =>
            some (.inl (g19, (s14b + (1 : Int32))))) (g5, (g5 0 27)))
      (fun j6 => Option.bind (α := Int32) (β := St)
        (if j3 = 0 then
          some (0 : Int32)
        else
          if a1 < (j6 0 29) then
            some (0 : Int32)
          else
            some (1 : Int32))
        (fun j8 => (tF_wants j6 j8).bind fun g10 =>
        some g10)))
set_option maxHeartbeats 4000000 in
theorem tC_number {l : Launch} {D : va_G} {A : Nat → Prop} {o : Nat} {ad : Nat → Nat} {dI : ClassId} {g : St} {a1 : Int32} {z : St} (hf : tF_number g a1 = some z) : Ct l yX6_number cX6_number 4 none 4 88 D vwCl [(dI, .int)] A (tW o ad dI) [.ref o, .int a1] g (QV D vwCl A (tW o ad dI) z) := by
  unfold tF_number at hf
  refine ct_intro (own := RX6) (lv0 := [(0, .ref o), (1, .int a1)]) (by decide) rfl (Nat.le_of_ble_eq_true rfl) rfl ?_
  intro p e s m args below meth c X hr
  refine tw_aload_n X dX6_number_0 rfl 0 rfl ?_
  refine tw_aload_n X dX6_number_1 rfl 0 rfl ?_
  refine tg_from X  dX6_number_2 ?_
  obtain ⟨x1, hx1, hf⟩ := bnd hf
  refine tw_callVi (As := [.int (g 0 27)]) (st := []) X (tC_byteAt hx1) tG_byteAt tI_byteAt ⟨Nat.le_of_ble_eq_true rfl, Nat.le_of_ble_eq_true rfl⟩ ⟨Nat.zero_le _, Nat.zero_le _⟩ 0 rfl rfl rfl rfl (Nat.le_of_ble_eq_true rfl) dX6_number_5 ?_
  refine tw_callSz (As := [.int x1]) (st := []) X (tC_isDigit (g := g) x1) tG_isDigit tI_isDigit ⟨Nat.le_of_ble_eq_true rfl, Nat.le_of_ble_eq_true rfl⟩ ⟨Nat.zero_le _, Nat.zero_le _⟩ rfl rfl (Nat.le_of_ble_eq_true rfl) dX6_number_8 ?_
  intro hb2
  refine bj_walk (P := fun j3 : Int32 => TW p l e (rom 4 88) s m args below meth c (MQ below (QV D vwCl A (tW o ad dI) z) args s 0 0 A) D vwCl A (tW o ad dI) 4 0 0 g 32 [(0, .ref o), (1, .int a1)] [.int j3]) hf ?_ ?_
  · intro j3 hf
    refine tw_istore_n (lv' := [(2, .int j3), (0, .ref o), (1, .int a1)]) X dX6_number_32 rfl (by decide) rfl ?_
    refine tw_aload_n X dX6_number_33 rfl 1 rfl ?_
    refine tw_iconst (v := 0) X dX6_number_34 rfl ?_
    obtain ⟨g5, hg5, hf⟩ := bnd hf
    refine tp_value X hg5 dX6_number_35 ?_
    refine tw_aload_n X dX6_number_38 rfl 1 rfl ?_
    refine tg_from X  dX6_number_39 ?_
    refine tw_istore_n (lv' := [(3, .int (g5 0 27)), (2, .int j3), (0, .ref o), (1, .int a1)]) X dX6_number_42 rfl (by decide) rfl ?_
    refine bj_walk (P := fun j6 : St => TW p l e (rom 4 88) s m args below meth c (MQ below (QV D vwCl A (tW o ad dI) z) args s 0 0 A) D vwCl A (tW o ad dI) 4 0 0 j6 82 [(0, .ref o), (1, .int a1), (2, .int j3)] []) hf ?_ ?_
    · intro j6 hf
      refine tw_aload_n X dX6_number_82 rfl 0 rfl ?_
      refine tw_iload_n X dX6_number_83 rfl 2 rfl ?_
      refine bj_walk (P := fun j8 : Int32 => TW p l e (rom 4 88) s m args below meth c (MQ below (QV D vwCl A (tW o ad dI) z) args s 0 0 A) D vwCl A (tW o ad dI) 4 0 0 j6 100 [] [.int j8, .ref o]) hf ?_ ?_
      · intro j8 hf
        obtain ⟨g10, hg10, hf⟩ := bnd hf
        refine tw_callVv (As := [.int j8]) (st := []) X (tC_wants hg10) tG_wants tI_wants ⟨Nat.le_of_ble_eq_true rfl, Nat.le_of_ble_eq_true rfl⟩ ⟨Nat.zero_le _, Nat.zero_le _⟩ 0 rfl rfl rfl rfl (Nat.le_of_ble_eq_true rfl) dX6_number_100 ?_
        exact tw_vret X hr (Option.some.inj hf) dX6_number_103
      · intro zz13 hf hk9
        refine tw_if_eq (tgt := 99) X dX6_number_84 rfl hf (fun q12 hf => ?_) (fun q12 hf => ?_)
        · clear q12
          refine tw_iconst (v := 0) X dX6_number_99 rfl ?_
          refine tw_sub [] (lv' := []) rfl ?_
          have hL := hk9 _ hf
          exact hL
        · clear q12
          refine tw_aload_n X dX6_number_87 rfl 0 rfl ?_
          refine tg_value X  dX6_number_88 ?_
          refine tw_iload_n X dX6_number_91 rfl 1 rfl ?_
          refine tw_icmp_gt (tgt := 99) X dX6_number_92 rfl hf (fun q11 hf => ?_) (fun q11 hf => ?_)
          · clear q11
            refine tw_iconst (v := 0) X dX6_number_99 rfl ?_
            refine tw_sub [] (lv' := []) rfl ?_
            have hL := hk9 _ hf
            exact hL
          · clear q11
            refine tw_iconst (v := 1) X dX6_number_95 rfl ?_
            refine tw_goto (tgt := 100) X dX6_number_96 rfl ?_
            refine tw_sub [] (lv' := []) rfl ?_
            have hL := hk9 _ hf
            exact hL
    · intro zz23 hf hk7
      refine tw_sub [2, 3, 1, 0] (lv' := [(0, .ref o), (1, .int a1), (2, .int j3), (3, .int (g5 0 27))]) rfl ?_
      refine it_walk (P := un2 fun s14a s14b => TW p l e (rom 4 88) s m args below meth c (MQ below (QV D vwCl A (tW o ad dI) z) args s 0 0 A) D vwCl A (tW o ad dI) 4 0 0 s14a 43 [(0, .ref o), (1, .int a1), (2, .int j3), (3, .int s14b)] []) hf ?_
      rintro ⟨s14a, s14b⟩ zz22 hf hl15
      dsimp only [un2] at hf ⊢
      refine tw_iload_n X dX6_number_43 rfl 3 rfl ?_
      refine tw_aload_n X dX6_number_44 rfl 0 rfl ?_
      refine tg_to X  dX6_number_45 ?_
      refine tw_icmp_ge (tgt := 82) X dX6_number_48 rfl hf (fun q21 hf => ?_) (fun q21 hf => ?_)
      · clear q21
        have hf16 := leafR hf hl15
        refine tw_sub [0, 1, 2] (lv' := [(0, .ref o), (1, .int a1), (2, .int j3)]) rfl ?_
        have hL := hk7 _ hf16
        exact hL
      · clear q21
        refine tw_iload_n X dX6_number_51 rfl 2 rfl ?_
        refine tw_if_eq (tgt := 82) X dX6_number_52 rfl hf (fun q20 hf => ?_) (fun q20 hf => ?_)
        · clear q20
          have hf17 := leafR hf hl15
          refine tw_sub [0, 1, 2] (lv' := [(0, .ref o), (1, .int a1), (2, .int j3)]) rfl ?_
          have hL := hk7 _ hf17
          exact hL
        · clear q20
          refine tw_aload_n X dX6_number_55 rfl 0 rfl ?_
          refine tw_bipush (v := 10) X dX6_number_56 rfl ?_
          refine tw_aload_n X dX6_number_58 rfl 0 rfl ?_
          refine tg_value X  dX6_number_59 ?_
          refine tw_imul X dX6_number_62 ?_
          refine tw_aload_n X dX6_number_63 rfl 0 rfl ?_
          refine tg_tape X  dX6_number_64 ?_
          refine tw_iload_n X dX6_number_67 rfl 3 rfl ?_
          obtain ⟨x18, hx18, hf⟩ := bnd hf
          refine ta_tape X hx18 dX6_number_68 ?_
          refine tw_iadd X dX6_number_69 ?_
          refine tw_bipush (v := 48) X dX6_number_70 rfl ?_
          refine tw_isub X dX6_number_72 ?_
          obtain ⟨g19, hg19, hf⟩ := bnd hf
          refine tp_value X hg19 dX6_number_73 ?_
          refine tw_iinc (q := 3) (v := (s14b + (1 : Int32))) (lv' := [(3, .int (s14b + (1 : Int32))), (0, .ref o), (1, .int a1), (2, .int j3)]) X dX6_number_76 rfl rfl (by decide) rfl ?_
          refine tw_goto (tgt := 43) X dX6_number_79 rfl ?_
          refine tw_sub [1, 2, 3, 0] (lv' := [(0, .ref o), (1, .int a1), (2, .int j3), (3, .int (s14b + (1 : Int32)))]) rfl ?_
          have hL := leafL hf hl15
          exact hL
  · intro zz26 hf hk4
    refine tw_if_eq (tgt := 31) X dX6_number_11 rfl hf (fun q25 hf => ?_) (fun q25 hf => ?_)
    · clear q25
      refine tw_iconst (v := 0) X dX6_number_31 rfl ?_
      have hL := hk4 _ hf
      exact hL
    · clear q25
      refine tw_aload_n X dX6_number_14 rfl 0 rfl ?_
      refine tg_to X  dX6_number_15 ?_
      refine tw_aload_n X dX6_number_18 rfl 0 rfl ?_
      refine tg_from X  dX6_number_19 ?_
      refine tw_isub X dX6_number_22 ?_
      refine tw_iconst (v := 5) X dX6_number_23 rfl ?_
      refine tw_icmp_ge (tgt := 31) X dX6_number_24 rfl hf (fun q24 hf => ?_) (fun q24 hf => ?_)
      · clear q24
        refine tw_iconst (v := 0) X dX6_number_31 rfl ?_
        have hL := hk4 _ hf
        exact hL
      · clear q24
        refine tw_iconst (v := 1) X dX6_number_27 rfl ?_
        refine tw_goto (tgt := 32) X dX6_number_28 rfl ?_
        have hL := hk4 _ hf
        exact hL
noncomputable def tF_sheet (g : St) (a1 : Int32) (a2 : Int32) (a3 : Int32) : Option (Int32 × St) :=
  if (tF_isOne a1) = 0 then
    some ((-1 : Int32), g)
  else
    if (tF_in (a2).toInt64 (-1 : Int64) (4 : Int64)) = 0 then
      some ((-1 : Int32), g)
    else
      jn (S := Unit) (T := Int32 × St)
        (if a2 < 0 then
          some (.inl ())
        else
          if a3 ≤ (40 : Int32) then
            some (.inl ())
          else
            some (.inr ((-1 : Int32), g)))
        (fun j3 => jn (S := Unit) (T := Int32 × St)
          (if a2 < 0 then
            some (.inl ())
          else
            if 0 ≤ a3 then
              some (.inl ())
            else
              some (.inr ((-14 : Int32), g)))
          (fun j5 => (wr g 34 4 a1 a2).bind fun g7 =>
          if 0 ≤ a2 then
            (wr g7 35 4 a1 a3).bind fun g8 =>
            iter (L := St × Int32) (T := Int32 × St) (un2 fun s9a s9b => 
              if (40 : Int32) ≤ s9b then
                some (.inr ((1 : Int32), s9a))
              else
                (wr s9a 36 160 (((40 : Int32) * a1) + s9b) (0 : Int32)).bind fun g12 =>
                some (.inl (g12, (s9b + (1 : Int32))))) (g8, (0 : Int32))
          else
            (wr g7 35 4 a1 (0 : Int32)).bind fun g15 =>
            iter (L := St × Int32) (T := Int32 × St) (un2 fun s16a s16b => 
              if (40 : Int32) ≤ s16b then
                some (.inr ((1 : Int32), s16a))
              else
                (wr s16a 36 160 (((40 : Int32) * a1) + s16b) (0 : Int32)).bind fun g19 =>
                some (.inl (g19, (s16b + (1 : Int32))))) (g15, (0 : Int32))))
set_option maxHeartbeats 4000000 in
theorem tC_sheet {l : Launch} {D : va_G} {A : Nat → Prop} {o : Nat} {ad : Nat → Nat} {dI : ClassId} {g : St} {a1 : Int32} {a2 : Int32} {a3 : Int32} {z : Int32 × St} (hf : tF_sheet g a1 a2 a3 = some z) : Ct l yX6_sheet cX6_sheet 5 (some .int) 2 45 D vwCl [(dI, .int)] A (tW o ad dI) [.ref o, .int a1, .int a2, .int a3] g (QI D vwCl A (tW o ad dI) z.1 z.2) := by
  unfold tF_sheet at hf
  refine ct_intro (own := RX6) (lv0 := [(0, .ref o), (1, .int a1), (2, .int a2), (3, .int a3)]) (by decide) rfl (Nat.le_of_ble_eq_true rfl) rfl ?_
  intro p e s m args below meth c X hr
  refine tw_iload_n X dX6_sheet_0 rfl 1 rfl ?_
  refine tw_callSz (As := [.int a1]) (st := []) X (tC_isOne (g := g) a1) tG_isOne tI_isOne ⟨Nat.le_of_ble_eq_true rfl, Nat.le_of_ble_eq_true rfl⟩ ⟨Nat.zero_le _, Nat.zero_le _⟩ rfl rfl (Nat.le_of_ble_eq_true rfl) dX6_sheet_1 ?_
  intro hb1
  refine tw_if_eq (tgt := 31) X dX6_sheet_4 rfl hf (fun q32 hf => ?_) (fun q32 hf => ?_)
  · clear q32
    refine tw_iconst (v := -1) X dX6_sheet_31 rfl ?_
    exact tw_iret X hr (prj1 hf) (prj2 hf) dX6_sheet_32
  · clear q32
    refine tw_iload_n X dX6_sheet_7 rfl 2 rfl ?_
    refine tw_i2l X dX6_sheet_8 ?_
    refine tw_ldc2 (v := -1) X q2109 dX6_sheet_9 ?_
    refine tw_ldc2 (v := 4) X q1904 dX6_sheet_12 ?_
    refine tw_callSz (As := [.long (a2).toInt64, .long (-1 : Int64), .long (4 : Int64)]) (st := []) X (tC_in (g := g) (a2).toInt64 (-1 : Int64) (4 : Int64)) tG_in tI_in ⟨Nat.le_of_ble_eq_true rfl, Nat.le_of_ble_eq_true rfl⟩ ⟨Nat.zero_le _, Nat.zero_le _⟩ rfl rfl (Nat.le_of_ble_eq_true rfl) dX6_sheet_15 ?_
    intro hb2
    refine tw_if_eq (tgt := 31) X dX6_sheet_18 rfl hf (fun q31 hf => ?_) (fun q31 hf => ?_)
    · clear q31
      refine tw_iconst (v := -1) X dX6_sheet_31 rfl ?_
      exact tw_iret X hr (prj1 hf) (prj2 hf) dX6_sheet_32
    · clear q31
      refine tw_iload_n X dX6_sheet_21 rfl 2 rfl ?_
      refine jn_walk (P := fun j3 : Unit => TW p l e (rom 2 45) s m args below meth c (MQ below (QI D vwCl A (tW o ad dI) z.1 z.2) args s 0 0 A) D vwCl A (tW o ad dI) 5 0 0 g 33 [(0, .ref o), (1, .int a1), (2, .int a2), (3, .int a3)] []) hf ?_ ?_
      · intro j3 hf
        refine tw_iload_n X dX6_sheet_33 rfl 2 rfl ?_
        refine jn_walk (P := fun j5 : Unit => TW p l e (rom 2 45) s m args below meth c (MQ below (QI D vwCl A (tW o ad dI) z.1 z.2) args s 0 0 A) D vwCl A (tW o ad dI) 5 0 0 g 44 [(0, .ref o), (1, .int a1), (2, .int a2), (3, .int a3)] []) hf ?_ ?_
        · intro j5 hf
          refine tw_aload_n X dX6_sheet_44 rfl 0 rfl ?_
          refine tg_sortOf X  dX6_sheet_45 ?_
          refine tw_iload_n X dX6_sheet_48 rfl 1 rfl ?_
          refine tw_iload_n X dX6_sheet_49 rfl 2 rfl ?_
          obtain ⟨g7, hg7, hf⟩ := bnd hf
          refine ts_sortOf X hg7 dX6_sheet_50 ?_
          refine tw_aload_n X dX6_sheet_51 rfl 0 rfl ?_
          refine tg_sizes X  dX6_sheet_52 ?_
          refine tw_iload_n X dX6_sheet_55 rfl 1 rfl ?_
          refine tw_iload_n X dX6_sheet_56 rfl 2 rfl ?_
          refine tw_if_ge (tgt := 64) X dX6_sheet_57 rfl hf (fun q22 hf => ?_) (fun q22 hf => ?_)
          · clear q22
            refine tw_iload_n X dX6_sheet_64 rfl 3 rfl ?_
            obtain ⟨g8, hg8, hf⟩ := bnd hf
            refine ts_sizes X hg8 dX6_sheet_65 ?_
            refine tw_iconst (v := 0) X dX6_sheet_66 rfl ?_
            refine tw_istore (lv' := [(4, .int (0 : Int32)), (0, .ref o), (1, .int a1), (2, .int a2), (3, .int a3)]) X dX6_sheet_67 (by decide) rfl ?_
            refine tw_sub [1, 2, 0] (lv' := [(0, .ref o), (1, .int a1), (4, .int (0 : Int32))]) rfl ?_
            refine it_walk (P := un2 fun s9a s9b => TW p l e (rom 2 45) s m args below meth c (MQ below (QI D vwCl A (tW o ad dI) z.1 z.2) args s 0 0 A) D vwCl A (tW o ad dI) 5 0 0 s9a 69 [(0, .ref o), (1, .int a1), (4, .int s9b)] []) hf ?_
            rintro ⟨s9a, s9b⟩ zz14 hf hl10
            dsimp only [un2] at hf ⊢
            refine tw_iload X dX6_sheet_69 2 rfl ?_
            refine tw_bipush (v := 40) X dX6_sheet_71 rfl ?_
            refine tw_icmp_ge (tgt := 95) X dX6_sheet_73 rfl hf (fun q13 hf => ?_) (fun q13 hf => ?_)
            · clear q13
              refine tw_iconst (v := 1) X dX6_sheet_95 rfl ?_
              have hf11 := leafR hf hl10
              exact tw_iret X hr (prj1 hf11) (prj2 hf11) dX6_sheet_96
            · clear q13
              refine tw_aload_n X dX6_sheet_76 rfl 0 rfl ?_
              refine tg_items X  dX6_sheet_77 ?_
              refine tw_bipush (v := 40) X dX6_sheet_80 rfl ?_
              refine tw_iload_n X dX6_sheet_82 rfl 1 rfl ?_
              refine tw_imul X dX6_sheet_83 ?_
              refine tw_iload X dX6_sheet_84 2 rfl ?_
              refine tw_iadd X dX6_sheet_86 ?_
              refine tw_iconst (v := 0) X dX6_sheet_87 rfl ?_
              obtain ⟨g12, hg12, hf⟩ := bnd hf
              refine ts_items X hg12 dX6_sheet_88 ?_
              refine tw_iinc (q := 2) (v := (s9b + (1 : Int32))) (lv' := [(4, .int (s9b + (1 : Int32))), (0, .ref o), (1, .int a1)]) X dX6_sheet_89 rfl rfl (by decide) rfl ?_
              refine tw_goto (tgt := 69) X dX6_sheet_92 rfl ?_
              refine tw_sub [1, 2, 0] (lv' := [(0, .ref o), (1, .int a1), (4, .int (s9b + (1 : Int32)))]) rfl ?_
              have hL := leafL hf hl10
              exact hL
          · clear q22
            refine tw_iconst (v := 0) X dX6_sheet_60 rfl ?_
            refine tw_goto (tgt := 65) X dX6_sheet_61 rfl ?_
            obtain ⟨g15, hg15, hf⟩ := bnd hf
            refine ts_sizes X hg15 dX6_sheet_65 ?_
            refine tw_iconst (v := 0) X dX6_sheet_66 rfl ?_
            refine tw_istore (lv' := [(4, .int (0 : Int32)), (0, .ref o), (1, .int a1), (2, .int a2), (3, .int a3)]) X dX6_sheet_67 (by decide) rfl ?_
            refine tw_sub [1, 2, 0] (lv' := [(0, .ref o), (1, .int a1), (4, .int (0 : Int32))]) rfl ?_
            refine it_walk (P := un2 fun s16a s16b => TW p l e (rom 2 45) s m args below meth c (MQ below (QI D vwCl A (tW o ad dI) z.1 z.2) args s 0 0 A) D vwCl A (tW o ad dI) 5 0 0 s16a 69 [(0, .ref o), (1, .int a1), (4, .int s16b)] []) hf ?_
            rintro ⟨s16a, s16b⟩ zz21 hf hl17
            dsimp only [un2] at hf ⊢
            refine tw_iload X dX6_sheet_69 2 rfl ?_
            refine tw_bipush (v := 40) X dX6_sheet_71 rfl ?_
            refine tw_icmp_ge (tgt := 95) X dX6_sheet_73 rfl hf (fun q20 hf => ?_) (fun q20 hf => ?_)
            · clear q20
              refine tw_iconst (v := 1) X dX6_sheet_95 rfl ?_
              have hf18 := leafR hf hl17
              exact tw_iret X hr (prj1 hf18) (prj2 hf18) dX6_sheet_96
            · clear q20
              refine tw_aload_n X dX6_sheet_76 rfl 0 rfl ?_
              refine tg_items X  dX6_sheet_77 ?_
              refine tw_bipush (v := 40) X dX6_sheet_80 rfl ?_
              refine tw_iload_n X dX6_sheet_82 rfl 1 rfl ?_
              refine tw_imul X dX6_sheet_83 ?_
              refine tw_iload X dX6_sheet_84 2 rfl ?_
              refine tw_iadd X dX6_sheet_86 ?_
              refine tw_iconst (v := 0) X dX6_sheet_87 rfl ?_
              obtain ⟨g19, hg19, hf⟩ := bnd hf
              refine ts_items X hg19 dX6_sheet_88 ?_
              refine tw_iinc (q := 2) (v := (s16b + (1 : Int32))) (lv' := [(4, .int (s16b + (1 : Int32))), (0, .ref o), (1, .int a1)]) X dX6_sheet_89 rfl rfl (by decide) rfl ?_
              refine tw_goto (tgt := 69) X dX6_sheet_92 rfl ?_
              refine tw_sub [1, 2, 0] (lv' := [(0, .ref o), (1, .int a1), (4, .int (s16b + (1 : Int32)))]) rfl ?_
              have hL := leafL hf hl17
              exact hL
        · intro zz26 hf hk6
          refine tw_if_lt (tgt := 44) X dX6_sheet_34 rfl hf (fun q25 hf => ?_) (fun q25 hf => ?_)
          · clear q25
            have hL := leafL hf hk6
            exact hL
          · clear q25
            refine tw_iload_n X dX6_sheet_37 rfl 3 rfl ?_
            refine tw_if_ge (tgt := 44) X dX6_sheet_38 rfl hf (fun q24 hf => ?_) (fun q24 hf => ?_)
            · clear q24
              have hL := leafL hf hk6
              exact hL
            · clear q24
              refine tw_bipush (v := -14) X dX6_sheet_41 rfl ?_
              have hf23 := leafR hf hk6
              exact tw_iret X hr (prj1 hf23) (prj2 hf23) dX6_sheet_43
      · intro zz30 hf hk4
        refine tw_if_lt (tgt := 33) X dX6_sheet_22 rfl hf (fun q29 hf => ?_) (fun q29 hf => ?_)
        · clear q29
          have hL := leafL hf hk4
          exact hL
        · clear q29
          refine tw_iload_n X dX6_sheet_25 rfl 3 rfl ?_
          refine tw_bipush (v := 40) X dX6_sheet_26 rfl ?_
          refine tw_icmp_le (tgt := 33) X dX6_sheet_28 rfl hf (fun q28 hf => ?_) (fun q28 hf => ?_)
          · clear q28
            have hL := leafL hf hk4
            exact hL
          · clear q28
            refine tw_iconst (v := -1) X dX6_sheet_31 rfl ?_
            have hf27 := leafR hf hk4
            exact tw_iret X hr (prj1 hf27) (prj2 hf27) dX6_sheet_32
noncomputable def tF_write (g : St) (a1 : Int32) (a2 : Int32) (a3 : Int32) : Option (Int32 × St) :=
  if (tF_isOne a1) = 0 then
    some ((-1 : Int32), g)
  else
    (rd (g 34) 4 a1).bind fun x2 =>
    if 0 ≤ x2 then
      (rd (g 35) 4 a1).bind fun x3 =>
      if (tF_in (a2).toInt64 (0 : Int64) ((x3 - (1 : Int32))).toInt64) = 0 then
        some ((-12 : Int32), g)
      else
        (rd (g 34) 4 a1).bind fun x5 =>
        (wr g 36 160 (((40 : Int32) * a1) + a2) (tF_narrowed x5 a3)).bind fun g6 =>
        some ((1 : Int32), g6)
    else
      some ((-11 : Int32), g)
set_option maxHeartbeats 4000000 in
theorem tC_write {l : Launch} {D : va_G} {A : Nat → Prop} {o : Nat} {ad : Nat → Nat} {dI : ClassId} {g : St} {a1 : Int32} {a2 : Int32} {a3 : Int32} {z : Int32 × St} (hf : tF_write g a1 a2 a3 = some z) : Ct l yX6_write cX6_write 4 (some .int) 2 45 D vwCl [(dI, .int)] A (tW o ad dI) [.ref o, .int a1, .int a2, .int a3] g (QI D vwCl A (tW o ad dI) z.1 z.2) := by
  unfold tF_write at hf
  refine ct_intro (own := RX6) (lv0 := [(0, .ref o), (1, .int a1), (2, .int a2), (3, .int a3)]) (by decide) rfl (Nat.le_of_ble_eq_true rfl) rfl ?_
  intro p e s m args below meth c X hr
  refine tw_iload_n X dX6_write_0 rfl 1 rfl ?_
  refine tw_callSz (As := [.int a1]) (st := []) X (tC_isOne (g := g) a1) tG_isOne tI_isOne ⟨Nat.le_of_ble_eq_true rfl, Nat.le_of_ble_eq_true rfl⟩ ⟨Nat.zero_le _, Nat.zero_le _⟩ rfl rfl (Nat.le_of_ble_eq_true rfl) dX6_write_1 ?_
  intro hb1
  refine tw_if_ne (tgt := 9) X dX6_write_4 rfl hf (fun q9 hf => ?_) (fun q9 hf => ?_)
  · clear q9
    refine tw_iconst (v := -1) X dX6_write_7 rfl ?_
    exact tw_iret X hr (prj1 hf) (prj2 hf) dX6_write_8
  · clear q9
    refine tw_aload_n X dX6_write_9 rfl 0 rfl ?_
    refine tg_sortOf X  dX6_write_10 ?_
    refine tw_iload_n X dX6_write_13 rfl 1 rfl ?_
    obtain ⟨x2, hx2, hf⟩ := bnd hf
    refine ta_sortOf X hx2 dX6_write_14 ?_
    refine tw_if_ge (tgt := 21) X dX6_write_15 rfl hf (fun q8 hf => ?_) (fun q8 hf => ?_)
    · clear q8
      refine tw_iload_n X dX6_write_21 rfl 2 rfl ?_
      refine tw_i2l X dX6_write_22 ?_
      refine tw_lconst (v := 0) X dX6_write_23 rfl ?_
      refine tw_aload_n X dX6_write_24 rfl 0 rfl ?_
      refine tg_sizes X  dX6_write_25 ?_
      refine tw_iload_n X dX6_write_28 rfl 1 rfl ?_
      obtain ⟨x3, hx3, hf⟩ := bnd hf
      refine ta_sizes X hx3 dX6_write_29 ?_
      refine tw_iconst (v := 1) X dX6_write_30 rfl ?_
      refine tw_isub X dX6_write_31 ?_
      refine tw_i2l X dX6_write_32 ?_
      refine tw_callSz (As := [.long (a2).toInt64, .long (0 : Int64), .long ((x3 - (1 : Int32))).toInt64]) (st := []) X (tC_in (g := g) (a2).toInt64 (0 : Int64) ((x3 - (1 : Int32))).toInt64) tG_in tI_in ⟨Nat.le_of_ble_eq_true rfl, Nat.le_of_ble_eq_true rfl⟩ ⟨Nat.zero_le _, Nat.zero_le _⟩ rfl rfl (Nat.le_of_ble_eq_true rfl) dX6_write_33 ?_
      intro hb4
      refine tw_if_ne (tgt := 42) X dX6_write_36 rfl hf (fun q7 hf => ?_) (fun q7 hf => ?_)
      · clear q7
        refine tw_bipush (v := -12) X dX6_write_39 rfl ?_
        exact tw_iret X hr (prj1 hf) (prj2 hf) dX6_write_41
      · clear q7
        refine tw_aload_n X dX6_write_42 rfl 0 rfl ?_
        refine tg_items X  dX6_write_43 ?_
        refine tw_bipush (v := 40) X dX6_write_46 rfl ?_
        refine tw_iload_n X dX6_write_48 rfl 1 rfl ?_
        refine tw_imul X dX6_write_49 ?_
        refine tw_iload_n X dX6_write_50 rfl 2 rfl ?_
        refine tw_iadd X dX6_write_51 ?_
        refine tw_aload_n X dX6_write_52 rfl 0 rfl ?_
        refine tg_sortOf X  dX6_write_53 ?_
        refine tw_iload_n X dX6_write_56 rfl 1 rfl ?_
        obtain ⟨x5, hx5, hf⟩ := bnd hf
        refine ta_sortOf X hx5 dX6_write_57 ?_
        refine tw_iload_n X dX6_write_58 rfl 3 rfl ?_
        refine tw_callSi (As := [.int x5, .int a3]) (st := [.int (((40 : Int32) * a1) + a2), .ref (ad 35)]) X (tC_narrowed (g := g) x5 a3) tG_narrowed tI_narrowed ⟨Nat.le_of_ble_eq_true rfl, Nat.le_of_ble_eq_true rfl⟩ ⟨Nat.zero_le _, Nat.zero_le _⟩ rfl rfl (Nat.le_of_ble_eq_true rfl) dX6_write_59 ?_
        obtain ⟨g6, hg6, hf⟩ := bnd hf
        refine ts_items X hg6 dX6_write_62 ?_
        refine tw_iconst (v := 1) X dX6_write_63 rfl ?_
        exact tw_iret X hr (prj1 hf) (prj2 hf) dX6_write_64
    · clear q8
      refine tw_bipush (v := -11) X dX6_write_18 rfl ?_
      exact tw_iret X hr (prj1 hf) (prj2 hf) dX6_write_20
noncomputable def tF_item (g : St) (a1 : Int32) (a2 : Int32) (a3 : Int32) : Option (Int32) :=
  if (tF_isOne a1) = 0 then
    some (-1 : Int32)
  else
    if (tF_in (a2).toInt64 (0 : Int64) (4 : Int64)) = 0 then
      some (-1 : Int32)
    else
      (tF_whyNot g a1 a2).bind fun x3 =>
      if x3 = 0 then
        (rd (g 35) 4 a1).bind fun x4 =>
        if (tF_in (a3).toInt64 (0 : Int64) ((x4 - (1 : Int32))).toInt64) = 0 then
          some (-12 : Int32)
        else
          (rd (g 36) 160 (((40 : Int32) * a1) + a3)).bind fun x6 =>
          some x6
      else
        some x3
set_option maxHeartbeats 4000000 in
theorem tC_item {l : Launch} {D : va_G} {A : Nat → Prop} {o : Nat} {ad : Nat → Nat} {dI : ClassId} {g : St} {a1 : Int32} {a2 : Int32} {a3 : Int32} {z : Int32} (hf : tF_item g a1 a2 a3 = some z) : Ct l yX6_item cX6_item 5 (some .int) 2 45 D vwCl [(dI, .int)] A (tW o ad dI) [.ref o, .int a1, .int a2, .int a3] g (QI D vwCl A (tW o ad dI) z g) := by
  unfold tF_item at hf
  refine ct_intro (own := RX6) (lv0 := [(0, .ref o), (1, .int a1), (2, .int a2), (3, .int a3)]) (by decide) rfl (Nat.le_of_ble_eq_true rfl) rfl ?_
  intro p e s m args below meth c X hr
  refine tw_iload_n X dX6_item_0 rfl 1 rfl ?_
  refine tw_callSz (As := [.int a1]) (st := []) X (tC_isOne (g := g) a1) tG_isOne tI_isOne ⟨Nat.le_of_ble_eq_true rfl, Nat.le_of_ble_eq_true rfl⟩ ⟨Nat.zero_le _, Nat.zero_le _⟩ rfl rfl (Nat.le_of_ble_eq_true rfl) dX6_item_1 ?_
  intro hb1
  refine tw_if_eq (tgt := 19) X dX6_item_4 rfl hf (fun q10 hf => ?_) (fun q10 hf => ?_)
  · clear q10
    refine tw_iconst (v := -1) X dX6_item_19 rfl ?_
    exact tw_iret X hr (Option.some.inj hf) rfl dX6_item_20
  · clear q10
    refine tw_iload_n X dX6_item_7 rfl 2 rfl ?_
    refine tw_i2l X dX6_item_8 ?_
    refine tw_lconst (v := 0) X dX6_item_9 rfl ?_
    refine tw_ldc2 (v := 4) X q1904 dX6_item_10 ?_
    refine tw_callSz (As := [.long (a2).toInt64, .long (0 : Int64), .long (4 : Int64)]) (st := []) X (tC_in (g := g) (a2).toInt64 (0 : Int64) (4 : Int64)) tG_in tI_in ⟨Nat.le_of_ble_eq_true rfl, Nat.le_of_ble_eq_true rfl⟩ ⟨Nat.zero_le _, Nat.zero_le _⟩ rfl rfl (Nat.le_of_ble_eq_true rfl) dX6_item_13 ?_
    intro hb2
    refine tw_if_ne (tgt := 21) X dX6_item_16 rfl hf (fun q9 hf => ?_) (fun q9 hf => ?_)
    · clear q9
      refine tw_iconst (v := -1) X dX6_item_19 rfl ?_
      exact tw_iret X hr (Option.some.inj hf) rfl dX6_item_20
    · clear q9
      refine tw_aload_n X dX6_item_21 rfl 0 rfl ?_
      refine tw_iload_n X dX6_item_22 rfl 1 rfl ?_
      refine tw_iload_n X dX6_item_23 rfl 2 rfl ?_
      obtain ⟨x3, hx3, hf⟩ := bnd hf
      refine tw_callVi (As := [.int a1, .int a2]) (st := []) X (tC_whyNot hx3) tG_whyNot tI_whyNot ⟨Nat.le_of_ble_eq_true rfl, Nat.le_of_ble_eq_true rfl⟩ ⟨Nat.zero_le _, Nat.zero_le _⟩ 0 rfl rfl rfl rfl (Nat.le_of_ble_eq_true rfl) dX6_item_24 ?_
      refine tw_istore (lv' := [(4, .int x3), (0, .ref o), (1, .int a1), (2, .int a2), (3, .int a3)]) X dX6_item_27 (by decide) rfl ?_
      refine tw_iload X dX6_item_29 0 rfl ?_
      refine tw_if_eq (tgt := 39) X dX6_item_31 rfl hf (fun q8 hf => ?_) (fun q8 hf => ?_)
      · clear q8
        refine tw_iload_n X dX6_item_39 rfl 4 rfl ?_
        refine tw_i2l X dX6_item_40 ?_
        refine tw_lconst (v := 0) X dX6_item_41 rfl ?_
        refine tw_aload_n X dX6_item_42 rfl 1 rfl ?_
        refine tg_sizes X  dX6_item_43 ?_
        refine tw_iload_n X dX6_item_46 rfl 2 rfl ?_
        obtain ⟨x4, hx4, hf⟩ := bnd hf
        refine ta_sizes X hx4 dX6_item_47 ?_
        refine tw_iconst (v := 1) X dX6_item_48 rfl ?_
        refine tw_isub X dX6_item_49 ?_
        refine tw_i2l X dX6_item_50 ?_
        refine tw_callSz (As := [.long (a3).toInt64, .long (0 : Int64), .long ((x4 - (1 : Int32))).toInt64]) (st := []) X (tC_in (g := g) (a3).toInt64 (0 : Int64) ((x4 - (1 : Int32))).toInt64) tG_in tI_in ⟨Nat.le_of_ble_eq_true rfl, Nat.le_of_ble_eq_true rfl⟩ ⟨Nat.zero_le _, Nat.zero_le _⟩ rfl rfl (Nat.le_of_ble_eq_true rfl) dX6_item_51 ?_
        intro hb5
        refine tw_if_eq (tgt := 71) X dX6_item_54 rfl hf (fun q7 hf => ?_) (fun q7 hf => ?_)
        · clear q7
          refine tw_bipush (v := -12) X dX6_item_71 rfl ?_
          exact tw_iret X hr (Option.some.inj hf) rfl dX6_item_73
        · clear q7
          refine tw_aload_n X dX6_item_57 rfl 1 rfl ?_
          refine tg_items X  dX6_item_58 ?_
          refine tw_bipush (v := 40) X dX6_item_61 rfl ?_
          refine tw_iload_n X dX6_item_63 rfl 2 rfl ?_
          refine tw_imul X dX6_item_64 ?_
          refine tw_iload_n X dX6_item_65 rfl 4 rfl ?_
          refine tw_iadd X dX6_item_66 ?_
          obtain ⟨x6, hx6, hf⟩ := bnd hf
          refine ta_items X hx6 dX6_item_67 ?_
          refine tw_goto (tgt := 73) X dX6_item_68 rfl ?_
          exact tw_iret X hr (Option.some.inj hf) rfl dX6_item_73
      · clear q8
        refine tw_iload X dX6_item_34 0 rfl ?_
        refine tw_goto (tgt := 73) X dX6_item_36 rfl ?_
        exact tw_iret X hr (Option.some.inj hf) rfl dX6_item_73
noncomputable def tF_taken (g : St) (a1 : Int32) (a2 : Int32) : Option (Int32) :=
  if (tF_isOne a1) = 0 then
    some (-1 : Int32)
  else
    jn (S := Unit) (T := Int32)
      (if (tF_in (a2).toInt64 (0 : Int64) (5 : Int64)) = 0 then
        if (tF_in (a2).toInt64 (10 : Int64) (14 : Int64)) = 0 then
          some (.inr (-1 : Int32))
        else
          some (.inl ())
      else
        some (.inl ()))
      (fun j3 => (tF_onShelf g a1).bind fun x5 =>
      jn (S := Unit) (T := Int32)
        (if 0 ≤ x5 then
          some (.inl ())
        else
          (rd (g 37) 4 a1).bind fun x24 =>
          if (2 : Int32) ≤ x24 then
            some (.inl ())
          else
            some (.inr (-11 : Int32)))
        (fun j6 => Option.bind (α := Int32) (β := Int32)
          (if x5 < 0 then
            (rd (g 39) 4 a1).bind fun x12 =>
            if (a2 - (10 : Int32)) = x12 then
              some (1 : Int32)
            else
              some (0 : Int32)
          else
            jn (S := Unit) (T := Int32)
              (if (6 : Int32) ≤ a2 then
                some (.inl ())
              else
                (tF_its g x5 (0 : Int32)).bind fun x16 =>
                if (tF_isUnder x16 a2) = 0 then
                  some (.inl ())
                else
                  some (.inr (1 : Int32)))
              (fun j14 => some (0 : Int32)))
          (fun j8 => if j8 = 0 then
            some (-13 : Int32)
          else
            (rd (g 38) 4 a1).bind fun x10 =>
            some x10)))
set_option maxHeartbeats 4000000 in
theorem tC_taken {l : Launch} {D : va_G} {A : Nat → Prop} {o : Nat} {ad : Nat → Nat} {dI : ClassId} {g : St} {a1 : Int32} {a2 : Int32} {z : Int32} (hf : tF_taken g a1 a2 = some z) : Ct l yX6_taken cX6_taken 5 (some .int) 3 67 D vwCl [(dI, .int)] A (tW o ad dI) [.ref o, .int a1, .int a2] g (QI D vwCl A (tW o ad dI) z g) := by
  unfold tF_taken at hf
  refine ct_intro (own := RX6) (lv0 := [(0, .ref o), (1, .int a1), (2, .int a2)]) (by decide) rfl (Nat.le_of_ble_eq_true rfl) rfl ?_
  intro p e s m args below meth c X hr
  refine tw_iload_n X dX6_taken_0 rfl 1 rfl ?_
  refine tw_callSz (As := [.int a1]) (st := []) X (tC_isOne (g := g) a1) tG_isOne tI_isOne ⟨Nat.le_of_ble_eq_true rfl, Nat.le_of_ble_eq_true rfl⟩ ⟨Nat.zero_le _, Nat.zero_le _⟩ rfl rfl (Nat.le_of_ble_eq_true rfl) dX6_taken_1 ?_
  intro hb1
  refine tw_if_eq (tgt := 33) X dX6_taken_4 rfl hf (fun q34 hf => ?_) (fun q34 hf => ?_)
  · clear q34
    refine tw_iconst (v := -1) X dX6_taken_33 rfl ?_
    exact tw_iret X hr (Option.some.inj hf) rfl dX6_taken_34
  · clear q34
    refine tw_iload_n X dX6_taken_7 rfl 2 rfl ?_
    refine tw_i2l X dX6_taken_8 ?_
    refine tw_lconst (v := 0) X dX6_taken_9 rfl ?_
    refine tw_ldc2 (v := 5) X q1654 dX6_taken_10 ?_
    refine tw_callSz (As := [.long (a2).toInt64, .long (0 : Int64), .long (5 : Int64)]) (st := []) X (tC_in (g := g) (a2).toInt64 (0 : Int64) (5 : Int64)) tG_in tI_in ⟨Nat.le_of_ble_eq_true rfl, Nat.le_of_ble_eq_true rfl⟩ ⟨Nat.zero_le _, Nat.zero_le _⟩ rfl rfl (Nat.le_of_ble_eq_true rfl) dX6_taken_13 ?_
    intro hb2
    refine jn_walk (P := fun j3 : Unit => TW p l e (rom 3 67) s m args below meth c (MQ below (QI D vwCl A (tW o ad dI) z g) args s 0 0 A) D vwCl A (tW o ad dI) 5 0 0 g 35 [(0, .ref o), (1, .int a1), (2, .int a2)] []) hf ?_ ?_
    · intro j3 hf
      refine tw_aload_n X dX6_taken_35 rfl 0 rfl ?_
      refine tw_iload_n X dX6_taken_36 rfl 1 rfl ?_
      obtain ⟨x5, hx5, hf⟩ := bnd hf
      refine tw_callVi (As := [.int a1]) (st := []) X (tC_onShelf hx5) tG_onShelf tI_onShelf ⟨Nat.le_of_ble_eq_true rfl, Nat.le_of_ble_eq_true rfl⟩ ⟨Nat.zero_le _, Nat.zero_le _⟩ 0 rfl rfl rfl rfl (Nat.le_of_ble_eq_true rfl) dX6_taken_37 ?_
      refine tw_istore_n (lv' := [(3, .int x5), (0, .ref o), (1, .int a1), (2, .int a2)]) X dX6_taken_40 rfl (by decide) rfl ?_
      refine tw_iload_n X dX6_taken_41 rfl 0 rfl ?_
      refine jn_walk (P := fun j6 : Unit => TW p l e (rom 3 67) s m args below meth c (MQ below (QI D vwCl A (tW o ad dI) z g) args s 0 0 A) D vwCl A (tW o ad dI) 5 0 0 g 58 [(0, .ref o), (1, .int a1), (2, .int a2), (3, .int x5)] []) hf ?_ ?_
      · intro j6 hf
        refine tw_iload_n X dX6_taken_58 rfl 3 rfl ?_
        refine bj_walk (P := fun j8 : Int32 => TW p l e (rom 3 67) s m args below meth c (MQ below (QI D vwCl A (tW o ad dI) z g) args s 0 0 A) D vwCl A (tW o ad dI) 5 0 0 g 107 [(0, .ref o), (1, .int a1)] [.int j8]) hf ?_ ?_
        · intro j8 hf
          refine tw_istore (lv' := [(4, .int j8), (0, .ref o), (1, .int a1)]) X dX6_taken_107 (by decide) rfl ?_
          refine tw_iload X dX6_taken_109 0 rfl ?_
          refine tw_if_eq (tgt := 123) X dX6_taken_111 rfl hf (fun q11 hf => ?_) (fun q11 hf => ?_)
          · clear q11
            refine tw_bipush (v := -13) X dX6_taken_123 rfl ?_
            exact tw_iret X hr (Option.some.inj hf) rfl dX6_taken_125
          · clear q11
            refine tw_aload_n X dX6_taken_114 rfl 1 rfl ?_
            refine tg_liesNumber X  dX6_taken_115 ?_
            refine tw_iload_n X dX6_taken_118 rfl 2 rfl ?_
            obtain ⟨x10, hx10, hf⟩ := bnd hf
            refine ta_liesNumber X hx10 dX6_taken_119 ?_
            refine tw_goto (tgt := 125) X dX6_taken_120 rfl ?_
            exact tw_iret X hr (Option.some.inj hf) rfl dX6_taken_125
        · intro zz23 hf hk9
          refine tw_if_lt (tgt := 89) X dX6_taken_59 rfl hf (fun q22 hf => ?_) (fun q22 hf => ?_)
          · clear q22
            refine tw_iload_n X dX6_taken_89 rfl 2 rfl ?_
            refine tw_bipush (v := 10) X dX6_taken_90 rfl ?_
            refine tw_isub X dX6_taken_92 ?_
            refine tw_aload_n X dX6_taken_93 rfl 0 rfl ?_
            refine tg_liesSort X  dX6_taken_94 ?_
            refine tw_iload_n X dX6_taken_97 rfl 1 rfl ?_
            obtain ⟨x12, hx12, hf⟩ := bnd hf
            refine ta_liesSort X hx12 dX6_taken_98 ?_
            refine tw_icmp_ne (tgt := 106) X dX6_taken_99 rfl hf (fun q13 hf => ?_) (fun q13 hf => ?_)
            · clear q13
              refine tw_iconst (v := 1) X dX6_taken_102 rfl ?_
              refine tw_goto (tgt := 107) X dX6_taken_103 rfl ?_
              refine tw_sub [0, 1] (lv' := [(0, .ref o), (1, .int a1)]) rfl ?_
              have hL := hk9 _ hf
              exact hL
            · clear q13
              refine tw_iconst (v := 0) X dX6_taken_106 rfl ?_
              refine tw_sub [0, 1] (lv' := [(0, .ref o), (1, .int a1)]) rfl ?_
              have hL := hk9 _ hf
              exact hL
          · clear q22
            refine tw_iload_n X dX6_taken_62 rfl 2 rfl ?_
            refine tw_bipush (v := 6) X dX6_taken_63 rfl ?_
            refine jn_walk (P := fun j14 : Unit => TW p l e (rom 3 67) s m args below meth c (MQ below (QI D vwCl A (tW o ad dI) z g) args s 0 0 A) D vwCl A (tW o ad dI) 5 0 0 g 85 [(0, .ref o), (1, .int a1)] []) hf ?_ ?_
            · intro j14 hf
              refine tw_iconst (v := 0) X dX6_taken_85 rfl ?_
              refine tw_goto (tgt := 107) X dX6_taken_86 rfl ?_
              have hL := hk9 _ hf
              exact hL
            · intro zz21 hf hk15
              refine tw_icmp_ge (tgt := 85) X dX6_taken_65 rfl hf (fun q20 hf => ?_) (fun q20 hf => ?_)
              · clear q20
                refine tw_sub [0, 1] (lv' := [(0, .ref o), (1, .int a1)]) rfl ?_
                have hL := leafL hf hk15
                exact hL
              · clear q20
                refine tw_aload_n X dX6_taken_68 rfl 0 rfl ?_
                refine tw_iload_n X dX6_taken_69 rfl 3 rfl ?_
                refine tw_iconst (v := 0) X dX6_taken_70 rfl ?_
                obtain ⟨x16, hx16, hf⟩ := bnd hf
                refine tw_callVi (As := [.int x5, .int (0 : Int32)]) (st := []) X (tC_its hx16) tG_its tI_its ⟨Nat.le_of_ble_eq_true rfl, Nat.le_of_ble_eq_true rfl⟩ ⟨Nat.zero_le _, Nat.zero_le _⟩ 0 rfl rfl rfl rfl (Nat.le_of_ble_eq_true rfl) dX6_taken_71 ?_
                refine tw_iload_n X dX6_taken_74 rfl 2 rfl ?_
                refine tw_callSz (As := [.int x16, .int a2]) (st := []) X (tC_isUnder (g := g) x16 a2) tG_isUnder tI_isUnder ⟨Nat.le_of_ble_eq_true rfl, Nat.le_of_ble_eq_true rfl⟩ ⟨Nat.zero_le _, Nat.zero_le _⟩ rfl rfl (Nat.le_of_ble_eq_true rfl) dX6_taken_75 ?_
                intro hb17
                refine tw_if_eq (tgt := 85) X dX6_taken_78 rfl hf (fun q19 hf => ?_) (fun q19 hf => ?_)
                · clear q19
                  refine tw_sub [0, 1] (lv' := [(0, .ref o), (1, .int a1)]) rfl ?_
                  have hL := leafL hf hk15
                  exact hL
                · clear q19
                  refine tw_iconst (v := 1) X dX6_taken_81 rfl ?_
                  refine tw_goto (tgt := 107) X dX6_taken_82 rfl ?_
                  have hf18 := leafR hf hk15
                  refine tw_sub [0, 1] (lv' := [(0, .ref o), (1, .int a1)]) rfl ?_
                  have hL := hk9 _ hf18
                  exact hL
      · intro zz28 hf hk7
        refine tw_if_ge (tgt := 58) X dX6_taken_42 rfl hf (fun q27 hf => ?_) (fun q27 hf => ?_)
        · clear q27
          refine tw_sub [1, 2, 3, 0] (lv' := [(0, .ref o), (1, .int a1), (2, .int a2), (3, .int x5)]) rfl ?_
          have hL := leafL hf hk7
          exact hL
        · clear q27
          refine tw_aload_n X dX6_taken_45 rfl 1 rfl ?_
          refine tg_lies X  dX6_taken_46 ?_
          refine tw_iload_n X dX6_taken_49 rfl 2 rfl ?_
          obtain ⟨x24, hx24, hf⟩ := bnd hf
          refine ta_lies X hx24 dX6_taken_50 ?_
          refine tw_iconst (v := 2) X dX6_taken_51 rfl ?_
          refine tw_icmp_ge (tgt := 58) X dX6_taken_52 rfl hf (fun q26 hf => ?_) (fun q26 hf => ?_)
          · clear q26
            refine tw_sub [1, 2, 3, 0] (lv' := [(0, .ref o), (1, .int a1), (2, .int a2), (3, .int x5)]) rfl ?_
            have hL := leafL hf hk7
            exact hL
          · clear q26
            refine tw_bipush (v := -11) X dX6_taken_55 rfl ?_
            have hf25 := leafR hf hk7
            exact tw_iret X hr (Option.some.inj hf25) rfl dX6_taken_57
    · intro zz33 hf hk4
      refine tw_if_ne (tgt := 35) X dX6_taken_16 rfl hf (fun q32 hf => ?_) (fun q32 hf => ?_)
      · clear q32
        refine tw_iload_n X dX6_taken_19 rfl 2 rfl ?_
        refine tw_i2l X dX6_taken_20 ?_
        refine tw_ldc2 (v := 10) X q2154 dX6_taken_21 ?_
        refine tw_ldc2 (v := 14) X q2155 dX6_taken_24 ?_
        refine tw_callSz (As := [.long (a2).toInt64, .long (10 : Int64), .long (14 : Int64)]) (st := []) X (tC_in (g := g) (a2).toInt64 (10 : Int64) (14 : Int64)) tG_in tI_in ⟨Nat.le_of_ble_eq_true rfl, Nat.le_of_ble_eq_true rfl⟩ ⟨Nat.zero_le _, Nat.zero_le _⟩ rfl rfl (Nat.le_of_ble_eq_true rfl) dX6_taken_27 ?_
        intro hb29
        refine tw_if_ne (tgt := 35) X dX6_taken_30 rfl hf (fun q31 hf => ?_) (fun q31 hf => ?_)
        · clear q31
          refine tw_iconst (v := -1) X dX6_taken_33 rfl ?_
          have hf30 := leafR hf hk4
          exact tw_iret X hr (Option.some.inj hf30) rfl dX6_taken_34
        · clear q31
          have hL := leafL hf hk4
          exact hL
      · clear q32
        have hL := leafL hf hk4
        exact hL
noncomputable def tF_gives (g : St) (a1 : Int32) : Option (Int32 × St) :=
  Option.bind (α := St) (β := Int32 × St)
    (if (g 0 43) = (1 : Int32) then
      (tF_runs g (20 : Int32)).bind fun g11 =>
      some g11
    else
      some g)
    (fun j1 => Option.bind (α := St) (β := Int32 × St)
      (if (j1 0 43) = (3 : Int32) then
        (tF_runs j1 (50 : Int32)).bind fun g8 =>
        some g8
      else
        some j1)
      (fun j3 => (tF_runs j3 (10 : Int32)).bind fun g5 =>
      if (g5 0 43) = (1 : Int32) then
        some (((a1 + (g5 0 42)) * (2 : Int32)), g5)
      else
        if (g5 0 43) = (3 : Int32) then
          some (((a1 + (g5 0 42)) - (1 : Int32)), g5)
        else
          some ((a1 + (g5 0 42)), g5)))
set_option maxHeartbeats 4000000 in
theorem tC_gives {l : Launch} {D : va_G} {A : Nat → Prop} {o : Nat} {ad : Nat → Nat} {dI : ClassId} {g : St} {a1 : Int32} {z : Int32 × St} (hf : tF_gives g a1 = some z) : Ct l yX6_gives cX6_gives 3 (some .int) 1 21 D vwCl [(dI, .int)] A (tW o ad dI) [.ref o, .int a1] g (QI D vwCl A (tW o ad dI) z.1 z.2) := by
  unfold tF_gives at hf
  refine ct_intro (own := RX6) (lv0 := [(0, .ref o), (1, .int a1)]) (by decide) rfl (Nat.le_of_ble_eq_true rfl) rfl ?_
  intro p e s m args below meth c X hr
  refine tw_aload_n X dX6_gives_0 rfl 0 rfl ?_
  refine tg_kindActing X  dX6_gives_1 ?_
  refine tw_iconst (v := 1) X dX6_gives_4 rfl ?_
  refine bj_walk (P := fun j1 : St => TW p l e (rom 1 21) s m args below meth c (MQ below (QI D vwCl A (tW o ad dI) z.1 z.2) args s 0 0 A) D vwCl A (tW o ad dI) 3 0 0 j1 14 [(0, .ref o), (1, .int a1)] []) hf ?_ ?_
  · intro j1 hf
    refine tw_aload_n X dX6_gives_14 rfl 0 rfl ?_
    refine tg_kindActing X  dX6_gives_15 ?_
    refine tw_iconst (v := 3) X dX6_gives_18 rfl ?_
    refine bj_walk (P := fun j3 : St => TW p l e (rom 1 21) s m args below meth c (MQ below (QI D vwCl A (tW o ad dI) z.1 z.2) args s 0 0 A) D vwCl A (tW o ad dI) 3 0 0 j3 28 [(0, .ref o), (1, .int a1)] []) hf ?_ ?_
    · intro j3 hf
      refine tw_aload_n X dX6_gives_28 rfl 0 rfl ?_
      refine tw_bipush (v := 10) X dX6_gives_29 rfl ?_
      obtain ⟨g5, hg5, hf⟩ := bnd hf
      refine tw_callVv (As := [.int (10 : Int32)]) (st := []) X (tC_runs hg5) tG_runs tI_runs ⟨Nat.le_of_ble_eq_true rfl, Nat.le_of_ble_eq_true rfl⟩ ⟨Nat.zero_le _, Nat.zero_le _⟩ 0 rfl rfl rfl rfl (Nat.le_of_ble_eq_true rfl) dX6_gives_31 ?_
      refine tw_iload_n X dX6_gives_34 rfl 1 rfl ?_
      refine tw_aload_n X dX6_gives_35 rfl 0 rfl ?_
      refine tg_about X  dX6_gives_36 ?_
      refine tw_iadd X dX6_gives_39 ?_
      refine tw_istore_n (lv' := [(2, .int (a1 + (g5 0 42))), (0, .ref o), (1, .int a1)]) X dX6_gives_40 rfl (by decide) rfl ?_
      refine tw_aload_n X dX6_gives_41 rfl 1 rfl ?_
      refine tg_kindActing X  dX6_gives_42 ?_
      refine tw_iconst (v := 1) X dX6_gives_45 rfl ?_
      refine tw_icmp_ne (tgt := 55) X dX6_gives_46 rfl hf (fun q7 hf => ?_) (fun q7 hf => ?_)
      · clear q7
        refine tw_iload_n X dX6_gives_49 rfl 0 rfl ?_
        refine tw_iconst (v := 2) X dX6_gives_50 rfl ?_
        refine tw_imul X dX6_gives_51 ?_
        refine tw_goto (tgt := 70) X dX6_gives_52 rfl ?_
        exact tw_iret X hr (prj1 hf) (prj2 hf) dX6_gives_70
      · clear q7
        refine tw_aload_n X dX6_gives_55 rfl 1 rfl ?_
        refine tg_kindActing X  dX6_gives_56 ?_
        refine tw_iconst (v := 3) X dX6_gives_59 rfl ?_
        refine tw_icmp_ne (tgt := 69) X dX6_gives_60 rfl hf (fun q6 hf => ?_) (fun q6 hf => ?_)
        · clear q6
          refine tw_iload_n X dX6_gives_63 rfl 0 rfl ?_
          refine tw_iconst (v := 1) X dX6_gives_64 rfl ?_
          refine tw_isub X dX6_gives_65 ?_
          refine tw_goto (tgt := 70) X dX6_gives_66 rfl ?_
          exact tw_iret X hr (prj1 hf) (prj2 hf) dX6_gives_70
        · clear q6
          refine tw_iload_n X dX6_gives_69 rfl 0 rfl ?_
          exact tw_iret X hr (prj1 hf) (prj2 hf) dX6_gives_70
    · intro zz10 hf hk4
      refine tw_icmp_ne (tgt := 28) X dX6_gives_19 rfl hf (fun q9 hf => ?_) (fun q9 hf => ?_)
      · clear q9
        refine tw_aload_n X dX6_gives_22 rfl 0 rfl ?_
        refine tw_bipush (v := 50) X dX6_gives_23 rfl ?_
        obtain ⟨g8, hg8, hf⟩ := bnd hf
        refine tw_callVv (As := [.int (50 : Int32)]) (st := []) X (tC_runs hg8) tG_runs tI_runs ⟨Nat.le_of_ble_eq_true rfl, Nat.le_of_ble_eq_true rfl⟩ ⟨Nat.zero_le _, Nat.zero_le _⟩ 0 rfl rfl rfl rfl (Nat.le_of_ble_eq_true rfl) dX6_gives_25 ?_
        have hL := hk4 _ hf
        exact hL
      · clear q9
        have hL := hk4 _ hf
        exact hL
  · intro zz13 hf hk2
    refine tw_icmp_ne (tgt := 14) X dX6_gives_5 rfl hf (fun q12 hf => ?_) (fun q12 hf => ?_)
    · clear q12
      refine tw_aload_n X dX6_gives_8 rfl 0 rfl ?_
      refine tw_bipush (v := 20) X dX6_gives_9 rfl ?_
      obtain ⟨g11, hg11, hf⟩ := bnd hf
      refine tw_callVv (As := [.int (20 : Int32)]) (st := []) X (tC_runs hg11) tG_runs tI_runs ⟨Nat.le_of_ble_eq_true rfl, Nat.le_of_ble_eq_true rfl⟩ ⟨Nat.zero_le _, Nat.zero_le _⟩ 0 rfl rfl rfl rfl (Nat.le_of_ble_eq_true rfl) dX6_gives_11 ?_
      have hL := hk2 _ hf
      exact hL
    · clear q12
      have hL := hk2 _ hf
      exact hL
noncomputable def tF_takes (g : St) (a1 : Int32) : Option (Int32 × St) :=
  Option.bind (α := Int32) (β := Int32 × St)
    (if (g 0 43) = (2 : Int32) then
      some (1 : Int32)
    else
      if (g 0 43) = (3 : Int32) then
        some (1 : Int32)
      else
        some (0 : Int32))
    (fun j1 => Option.bind (α := St) (β := Int32 × St)
      (if j1 = 0 then
        some g
      else
        (tF_runs g (30 : Int32)).bind fun g14 =>
        some g14)
      (fun j3 => Option.bind (α := St) (β := Int32 × St)
        (if (j3 0 43) = (5 : Int32) then
          (tF_runs j3 (60 : Int32)).bind fun g11 =>
          some g11
        else
          some j3)
        (fun j5 => (tF_runs j5 (11 : Int32)).bind fun g7 =>
        (tF_gives g7 a1).bind (un2 fun y8a y8b =>
        if j1 = 0 then
          if (y8b 0 43) = (5 : Int32) then
            some (((0 : Int32) - (y8a - (y8b 0 41))), y8b)
          else
            some ((y8a - (y8b 0 41)), y8b)
        else
          some (((y8a - (y8b 0 41)) ^^^ (y8b 0 41)), y8b)))))
set_option maxHeartbeats 4000000 in
theorem tC_takes {l : Launch} {D : va_G} {A : Nat → Prop} {o : Nat} {ad : Nat → Nat} {dI : ClassId} {g : St} {a1 : Int32} {z : Int32 × St} (hf : tF_takes g a1 = some z) : Ct l yX6_takes cX6_takes 4 (some .int) 2 43 D vwCl [(dI, .int)] A (tW o ad dI) [.ref o, .int a1] g (QI D vwCl A (tW o ad dI) z.1 z.2) := by
  unfold tF_takes at hf
  refine ct_intro (own := RX6) (lv0 := [(0, .ref o), (1, .int a1)]) (by decide) rfl (Nat.le_of_ble_eq_true rfl) rfl ?_
  intro p e s m args below meth c X hr
  refine tw_aload_n X dX6_takes_0 rfl 0 rfl ?_
  refine tg_kindActing X  dX6_takes_1 ?_
  refine tw_iconst (v := 2) X dX6_takes_4 rfl ?_
  refine bj_walk (P := fun j1 : Int32 => TW p l e (rom 2 43) s m args below meth c (MQ below (QI D vwCl A (tW o ad dI) z.1 z.2) args s 0 0 A) D vwCl A (tW o ad dI) 4 0 0 g 21 [(0, .ref o), (1, .int a1)] [.int j1]) hf ?_ ?_
  · intro j1 hf
    refine tw_istore_n (lv' := [(2, .int j1), (0, .ref o), (1, .int a1)]) X dX6_takes_21 rfl (by decide) rfl ?_
    refine tw_iload_n X dX6_takes_22 rfl 0 rfl ?_
    refine bj_walk (P := fun j3 : St => TW p l e (rom 2 43) s m args below meth c (MQ below (QI D vwCl A (tW o ad dI) z.1 z.2) args s 0 0 A) D vwCl A (tW o ad dI) 4 0 0 j3 32 [(0, .ref o), (1, .int a1), (2, .int j1)] []) hf ?_ ?_
    · intro j3 hf
      refine tw_aload_n X dX6_takes_32 rfl 0 rfl ?_
      refine tg_kindActing X  dX6_takes_33 ?_
      refine tw_iconst (v := 5) X dX6_takes_36 rfl ?_
      refine bj_walk (P := fun j5 : St => TW p l e (rom 2 43) s m args below meth c (MQ below (QI D vwCl A (tW o ad dI) z.1 z.2) args s 0 0 A) D vwCl A (tW o ad dI) 4 0 0 j5 46 [(0, .ref o), (1, .int a1), (2, .int j1)] []) hf ?_ ?_
      · intro j5 hf
        refine tw_aload_n X dX6_takes_46 rfl 0 rfl ?_
        refine tw_bipush (v := 11) X dX6_takes_47 rfl ?_
        obtain ⟨g7, hg7, hf⟩ := bnd hf
        refine tw_callVv (As := [.int (11 : Int32)]) (st := []) X (tC_runs hg7) tG_runs tI_runs ⟨Nat.le_of_ble_eq_true rfl, Nat.le_of_ble_eq_true rfl⟩ ⟨Nat.zero_le _, Nat.zero_le _⟩ 0 rfl rfl rfl rfl (Nat.le_of_ble_eq_true rfl) dX6_takes_49 ?_
        refine tw_aload_n X dX6_takes_52 rfl 0 rfl ?_
        refine tw_iload_n X dX6_takes_53 rfl 1 rfl ?_
        obtain ⟨⟨y8a, y8b⟩, hy8, hf⟩ := bnd hf
        dsimp only [un2] at hf
        refine tw_callVi (As := [.int a1]) (st := []) X (tC_gives hy8) tG_gives tI_gives ⟨Nat.le_of_ble_eq_true rfl, Nat.le_of_ble_eq_true rfl⟩ ⟨Nat.zero_le _, Nat.zero_le _⟩ 0 rfl rfl rfl rfl (Nat.le_of_ble_eq_true rfl) dX6_takes_54 ?_
        refine tw_aload_n X dX6_takes_57 rfl 0 rfl ?_
        refine tg_acting X  dX6_takes_58 ?_
        refine tw_isub X dX6_takes_61 ?_
        refine tw_istore_n (lv' := [(3, .int (y8a - (y8b 0 41))), (0, .ref o), (1, .int a1), (2, .int j1)]) X dX6_takes_62 rfl (by decide) rfl ?_
        refine tw_iload_n X dX6_takes_63 rfl 3 rfl ?_
        refine tw_if_eq (tgt := 76) X dX6_takes_64 rfl hf (fun q10 hf => ?_) (fun q10 hf => ?_)
        · clear q10
          refine tw_aload_n X dX6_takes_76 rfl 1 rfl ?_
          refine tg_kindActing X  dX6_takes_77 ?_
          refine tw_iconst (v := 5) X dX6_takes_80 rfl ?_
          refine tw_icmp_ne (tgt := 90) X dX6_takes_81 rfl hf (fun q9 hf => ?_) (fun q9 hf => ?_)
          · clear q9
            refine tw_iconst (v := 0) X dX6_takes_84 rfl ?_
            refine tw_iload_n X dX6_takes_85 rfl 0 rfl ?_
            refine tw_isub X dX6_takes_86 ?_
            refine tw_goto (tgt := 91) X dX6_takes_87 rfl ?_
            exact tw_iret X hr (prj1 hf) (prj2 hf) dX6_takes_91
          · clear q9
            refine tw_iload_n X dX6_takes_90 rfl 0 rfl ?_
            exact tw_iret X hr (prj1 hf) (prj2 hf) dX6_takes_91
        · clear q10
          refine tw_iload_n X dX6_takes_67 rfl 0 rfl ?_
          refine tw_aload_n X dX6_takes_68 rfl 1 rfl ?_
          refine tg_acting X  dX6_takes_69 ?_
          refine tw_ixor X dX6_takes_72 ?_
          refine tw_goto (tgt := 91) X dX6_takes_73 rfl ?_
          exact tw_iret X hr (prj1 hf) (prj2 hf) dX6_takes_91
      · intro zz13 hf hk6
        refine tw_icmp_ne (tgt := 46) X dX6_takes_37 rfl hf (fun q12 hf => ?_) (fun q12 hf => ?_)
        · clear q12
          refine tw_aload_n X dX6_takes_40 rfl 0 rfl ?_
          refine tw_bipush (v := 60) X dX6_takes_41 rfl ?_
          obtain ⟨g11, hg11, hf⟩ := bnd hf
          refine tw_callVv (As := [.int (60 : Int32)]) (st := []) X (tC_runs hg11) tG_runs tI_runs ⟨Nat.le_of_ble_eq_true rfl, Nat.le_of_ble_eq_true rfl⟩ ⟨Nat.zero_le _, Nat.zero_le _⟩ 0 rfl rfl rfl rfl (Nat.le_of_ble_eq_true rfl) dX6_takes_43 ?_
          have hL := hk6 _ hf
          exact hL
        · clear q12
          have hL := hk6 _ hf
          exact hL
    · intro zz16 hf hk4
      refine tw_if_eq (tgt := 32) X dX6_takes_23 rfl hf (fun q15 hf => ?_) (fun q15 hf => ?_)
      · clear q15
        refine tw_sub [1, 2, 0] (lv' := [(0, .ref o), (1, .int a1), (2, .int j1)]) rfl ?_
        have hL := hk4 _ hf
        exact hL
      · clear q15
        refine tw_aload_n X dX6_takes_26 rfl 1 rfl ?_
        refine tw_bipush (v := 30) X dX6_takes_27 rfl ?_
        obtain ⟨g14, hg14, hf⟩ := bnd hf
        refine tw_callVv (As := [.int (30 : Int32)]) (st := []) X (tC_runs hg14) tG_runs tI_runs ⟨Nat.le_of_ble_eq_true rfl, Nat.le_of_ble_eq_true rfl⟩ ⟨Nat.zero_le _, Nat.zero_le _⟩ 0 rfl rfl rfl rfl (Nat.le_of_ble_eq_true rfl) dX6_takes_29 ?_
        refine tw_sub [1, 2, 0] (lv' := [(0, .ref o), (1, .int a1), (2, .int j1)]) rfl ?_
        have hL := hk4 _ hf
        exact hL
  · intro zz19 hf hk2
    refine tw_icmp_eq (tgt := 16) X dX6_takes_5 rfl hf (fun q18 hf => ?_) (fun q18 hf => ?_)
    · clear q18
      refine tw_iconst (v := 1) X dX6_takes_16 rfl ?_
      refine tw_goto (tgt := 21) X dX6_takes_17 rfl ?_
      have hL := hk2 _ hf
      exact hL
    · clear q18
      refine tw_aload_n X dX6_takes_8 rfl 0 rfl ?_
      refine tg_kindActing X  dX6_takes_9 ?_
      refine tw_iconst (v := 3) X dX6_takes_12 rfl ?_
      refine tw_icmp_ne (tgt := 20) X dX6_takes_13 rfl hf (fun q17 hf => ?_) (fun q17 hf => ?_)
      · clear q17
        refine tw_iconst (v := 1) X dX6_takes_16 rfl ?_
        refine tw_goto (tgt := 21) X dX6_takes_17 rfl ?_
        have hL := hk2 _ hf
        exact hL
      · clear q17
        refine tw_iconst (v := 0) X dX6_takes_20 rfl ?_
        have hL := hk2 _ hf
        exact hL
noncomputable def tF_halves (g : St) (a1 : Int32) : Option (Int32 × St) :=
  if (g 0 43) = (4 : Int32) then
    (tF_runs g (40 : Int32)).bind fun g1 =>
    (tF_plainHalves g1 (a1 - (3 : Int32))).bind (un2 fun y2a y2b =>
    some (y2a, y2b))
  else
    if (g 0 43) = (5 : Int32) then
      (tF_runs g (61 : Int32)).bind fun g3 =>
      (tF_runs g3 (40 : Int32)).bind fun g4 =>
      (tF_plainHalves g4 (a1 - (3 : Int32))).bind (un2 fun y5a y5b =>
      if (y5b 0 44) = 0 then
        (tF_gives y5b (y5b 0 41)).bind (un2 fun y6a y6b =>
        some ((y5a - y6a), y6b))
      else
        some ((0 : Int32), y5b))
    else
      (tF_plainHalves g a1).bind (un2 fun y8a y8b =>
      some (y8a, y8b))
set_option maxHeartbeats 4000000 in
theorem tC_halves {l : Launch} {D : va_G} {A : Nat → Prop} {o : Nat} {ad : Nat → Nat} {dI : ClassId} {g : St} {a1 : Int32} {z : Int32 × St} (hf : tF_halves g a1 = some z) : Ct l yX6_halves cX6_halves 3 (some .int) 2 43 D vwCl [(dI, .int)] A (tW o ad dI) [.ref o, .int a1] g (QI D vwCl A (tW o ad dI) z.1 z.2) := by
  unfold tF_halves at hf
  refine ct_intro (own := RX6) (lv0 := [(0, .ref o), (1, .int a1)]) (by decide) rfl (Nat.le_of_ble_eq_true rfl) rfl ?_
  intro p e s m args below meth c X hr
  refine tw_aload_n X dX6_halves_0 rfl 0 rfl ?_
  refine tg_kindActing X  dX6_halves_1 ?_
  refine tw_iconst (v := 4) X dX6_halves_4 rfl ?_
  refine tw_icmp_ne (tgt := 22) X dX6_halves_5 rfl hf (fun q10 hf => ?_) (fun q10 hf => ?_)
  · clear q10
    refine tw_aload_n X dX6_halves_8 rfl 0 rfl ?_
    refine tw_bipush (v := 40) X dX6_halves_9 rfl ?_
    obtain ⟨g1, hg1, hf⟩ := bnd hf
    refine tw_callVv (As := [.int (40 : Int32)]) (st := []) X (tC_runs hg1) tG_runs tI_runs ⟨Nat.le_of_ble_eq_true rfl, Nat.le_of_ble_eq_true rfl⟩ ⟨Nat.zero_le _, Nat.zero_le _⟩ 0 rfl rfl rfl rfl (Nat.le_of_ble_eq_true rfl) dX6_halves_11 ?_
    refine tw_aload_n X dX6_halves_14 rfl 0 rfl ?_
    refine tw_iload_n X dX6_halves_15 rfl 1 rfl ?_
    refine tw_iconst (v := 3) X dX6_halves_16 rfl ?_
    refine tw_isub X dX6_halves_17 ?_
    obtain ⟨⟨y2a, y2b⟩, hy2, hf⟩ := bnd hf
    dsimp only [un2] at hf
    refine tw_callVi (As := [.int (a1 - (3 : Int32))]) (st := []) X (tC_plainHalves hy2) tG_plainHalves tI_plainHalves ⟨Nat.le_of_ble_eq_true rfl, Nat.le_of_ble_eq_true rfl⟩ ⟨Nat.zero_le _, Nat.zero_le _⟩ 0 rfl rfl rfl rfl (Nat.le_of_ble_eq_true rfl) dX6_halves_18 ?_
    exact tw_iret X hr (prj1 hf) (prj2 hf) dX6_halves_21
  · clear q10
    refine tw_aload_n X dX6_halves_22 rfl 0 rfl ?_
    refine tg_kindActing X  dX6_halves_23 ?_
    refine tw_iconst (v := 5) X dX6_halves_26 rfl ?_
    refine tw_icmp_ne (tgt := 72) X dX6_halves_27 rfl hf (fun q9 hf => ?_) (fun q9 hf => ?_)
    · clear q9
      refine tw_aload_n X dX6_halves_30 rfl 0 rfl ?_
      refine tw_bipush (v := 61) X dX6_halves_31 rfl ?_
      obtain ⟨g3, hg3, hf⟩ := bnd hf
      refine tw_callVv (As := [.int (61 : Int32)]) (st := []) X (tC_runs hg3) tG_runs tI_runs ⟨Nat.le_of_ble_eq_true rfl, Nat.le_of_ble_eq_true rfl⟩ ⟨Nat.zero_le _, Nat.zero_le _⟩ 0 rfl rfl rfl rfl (Nat.le_of_ble_eq_true rfl) dX6_halves_33 ?_
      refine tw_aload_n X dX6_halves_36 rfl 0 rfl ?_
      refine tw_bipush (v := 40) X dX6_halves_37 rfl ?_
      obtain ⟨g4, hg4, hf⟩ := bnd hf
      refine tw_callVv (As := [.int (40 : Int32)]) (st := []) X (tC_runs hg4) tG_runs tI_runs ⟨Nat.le_of_ble_eq_true rfl, Nat.le_of_ble_eq_true rfl⟩ ⟨Nat.zero_le _, Nat.zero_le _⟩ 0 rfl rfl rfl rfl (Nat.le_of_ble_eq_true rfl) dX6_halves_39 ?_
      refine tw_aload_n X dX6_halves_42 rfl 0 rfl ?_
      refine tw_iload_n X dX6_halves_43 rfl 1 rfl ?_
      refine tw_iconst (v := 3) X dX6_halves_44 rfl ?_
      refine tw_isub X dX6_halves_45 ?_
      obtain ⟨⟨y5a, y5b⟩, hy5, hf⟩ := bnd hf
      dsimp only [un2] at hf
      refine tw_callVi (As := [.int (a1 - (3 : Int32))]) (st := []) X (tC_plainHalves hy5) tG_plainHalves tI_plainHalves ⟨Nat.le_of_ble_eq_true rfl, Nat.le_of_ble_eq_true rfl⟩ ⟨Nat.zero_le _, Nat.zero_le _⟩ 0 rfl rfl rfl rfl (Nat.le_of_ble_eq_true rfl) dX6_halves_46 ?_
      refine tw_istore_n (lv' := [(2, .int y5a), (0, .ref o), (1, .int a1)]) X dX6_halves_49 rfl (by decide) rfl ?_
      refine tw_aload_n X dX6_halves_50 rfl 1 rfl ?_
      refine tg_isParted X  dX6_halves_51 ?_
      refine tw_if_eq (tgt := 61) X dX6_halves_54 rfl hf (fun q7 hf => ?_) (fun q7 hf => ?_)
      · clear q7
        refine tw_iload_n X dX6_halves_61 rfl 0 rfl ?_
        refine tw_aload_n X dX6_halves_62 rfl 1 rfl ?_
        refine tw_aload_n X dX6_halves_63 rfl 1 rfl ?_
        refine tg_acting X  dX6_halves_64 ?_
        obtain ⟨⟨y6a, y6b⟩, hy6, hf⟩ := bnd hf
        dsimp only [un2] at hf
        refine tw_callVi (As := [.int (y5b 0 41)]) (st := [.int y5a]) X (tC_gives hy6) tG_gives tI_gives ⟨Nat.le_of_ble_eq_true rfl, Nat.le_of_ble_eq_true rfl⟩ ⟨Nat.zero_le _, Nat.zero_le _⟩ 0 rfl rfl rfl rfl (Nat.le_of_ble_eq_true rfl) dX6_halves_67 ?_
        refine tw_isub X dX6_halves_70 ?_
        exact tw_iret X hr (prj1 hf) (prj2 hf) dX6_halves_71
      · clear q7
        refine tw_iconst (v := 0) X dX6_halves_57 rfl ?_
        refine tw_goto (tgt := 71) X dX6_halves_58 rfl ?_
        exact tw_iret X hr (prj1 hf) (prj2 hf) dX6_halves_71
    · clear q9
      refine tw_aload_n X dX6_halves_72 rfl 0 rfl ?_
      refine tw_iload_n X dX6_halves_73 rfl 1 rfl ?_
      obtain ⟨⟨y8a, y8b⟩, hy8, hf⟩ := bnd hf
      dsimp only [un2] at hf
      refine tw_callVi (As := [.int a1]) (st := []) X (tC_plainHalves hy8) tG_plainHalves tI_plainHalves ⟨Nat.le_of_ble_eq_true rfl, Nat.le_of_ble_eq_true rfl⟩ ⟨Nat.zero_le _, Nat.zero_le _⟩ 0 rfl rfl rfl rfl (Nat.le_of_ble_eq_true rfl) dX6_halves_74 ?_
      exact tw_iret X hr (prj1 hf) (prj2 hf) dX6_halves_77
noncomputable def tF_owes (g : St) (a1 : Int32) : Option (Int32 × St) :=
  Option.bind (α := St) (β := Int32 × St)
    (if (g 0 43) = (3 : Int32) then
      (tF_runs g (51 : Int32)).bind fun g7 =>
      some g7
    else
      some g)
    (fun j1 => (tF_runs j1 (13 : Int32)).bind fun g3 =>
    (tF_takes g3 a1).bind (un2 fun y4a y4b =>
    if (y4b 0 43) = (3 : Int32) then
      (tF_halves y4b (y4b 0 42)).bind (un2 fun y5a y5b =>
      some (((y4a ^^^ (y4b 0 42)) + y5a), y5b))
    else
      some ((y4a ^^^ (y4b 0 42)), y4b)))
set_option maxHeartbeats 4000000 in
theorem tC_owes {l : Launch} {D : va_G} {A : Nat → Prop} {o : Nat} {ad : Nat → Nat} {dI : ClassId} {g : St} {a1 : Int32} {z : Int32 × St} (hf : tF_owes g a1 = some z) : Ct l yX6_owes cX6_owes 3 (some .int) 3 66 D vwCl [(dI, .int)] A (tW o ad dI) [.ref o, .int a1] g (QI D vwCl A (tW o ad dI) z.1 z.2) := by
  unfold tF_owes at hf
  refine ct_intro (own := RX6) (lv0 := [(0, .ref o), (1, .int a1)]) (by decide) rfl (Nat.le_of_ble_eq_true rfl) rfl ?_
  intro p e s m args below meth c X hr
  refine tw_aload_n X dX6_owes_0 rfl 0 rfl ?_
  refine tg_kindActing X  dX6_owes_1 ?_
  refine tw_iconst (v := 3) X dX6_owes_4 rfl ?_
  refine bj_walk (P := fun j1 : St => TW p l e (rom 3 66) s m args below meth c (MQ below (QI D vwCl A (tW o ad dI) z.1 z.2) args s 0 0 A) D vwCl A (tW o ad dI) 3 0 0 j1 14 [(0, .ref o), (1, .int a1)] []) hf ?_ ?_
  · intro j1 hf
    refine tw_aload_n X dX6_owes_14 rfl 0 rfl ?_
    refine tw_bipush (v := 13) X dX6_owes_15 rfl ?_
    obtain ⟨g3, hg3, hf⟩ := bnd hf
    refine tw_callVv (As := [.int (13 : Int32)]) (st := []) X (tC_runs hg3) tG_runs tI_runs ⟨Nat.le_of_ble_eq_true rfl, Nat.le_of_ble_eq_true rfl⟩ ⟨Nat.zero_le _, Nat.zero_le _⟩ 0 rfl rfl rfl rfl (Nat.le_of_ble_eq_true rfl) dX6_owes_17 ?_
    refine tw_aload_n X dX6_owes_20 rfl 0 rfl ?_
    refine tw_iload_n X dX6_owes_21 rfl 1 rfl ?_
    obtain ⟨⟨y4a, y4b⟩, hy4, hf⟩ := bnd hf
    dsimp only [un2] at hf
    refine tw_callVi (As := [.int a1]) (st := []) X (tC_takes hy4) tG_takes tI_takes ⟨Nat.le_of_ble_eq_true rfl, Nat.le_of_ble_eq_true rfl⟩ ⟨Nat.zero_le _, Nat.zero_le _⟩ 0 rfl rfl rfl rfl (Nat.le_of_ble_eq_true rfl) dX6_owes_22 ?_
    refine tw_aload_n X dX6_owes_25 rfl 0 rfl ?_
    refine tg_about X  dX6_owes_26 ?_
    refine tw_ixor X dX6_owes_29 ?_
    refine tw_istore_n (lv' := [(2, .int (y4a ^^^ (y4b 0 42))), (0, .ref o), (1, .int a1)]) X dX6_owes_30 rfl (by decide) rfl ?_
    refine tw_aload_n X dX6_owes_31 rfl 1 rfl ?_
    refine tg_kindActing X  dX6_owes_32 ?_
    refine tw_iconst (v := 3) X dX6_owes_35 rfl ?_
    refine tw_icmp_ne (tgt := 52) X dX6_owes_36 rfl hf (fun q6 hf => ?_) (fun q6 hf => ?_)
    · clear q6
      refine tw_iload_n X dX6_owes_39 rfl 0 rfl ?_
      refine tw_aload_n X dX6_owes_40 rfl 1 rfl ?_
      refine tw_aload_n X dX6_owes_41 rfl 1 rfl ?_
      refine tg_about X  dX6_owes_42 ?_
      obtain ⟨⟨y5a, y5b⟩, hy5, hf⟩ := bnd hf
      dsimp only [un2] at hf
      refine tw_callVi (As := [.int (y4b 0 42)]) (st := [.int (y4a ^^^ (y4b 0 42))]) X (tC_halves hy5) tG_halves tI_halves ⟨Nat.le_of_ble_eq_true rfl, Nat.le_of_ble_eq_true rfl⟩ ⟨Nat.zero_le _, Nat.zero_le _⟩ 0 rfl rfl rfl rfl (Nat.le_of_ble_eq_true rfl) dX6_owes_45 ?_
      refine tw_iadd X dX6_owes_48 ?_
      refine tw_goto (tgt := 53) X dX6_owes_49 rfl ?_
      exact tw_iret X hr (prj1 hf) (prj2 hf) dX6_owes_53
    · clear q6
      refine tw_iload_n X dX6_owes_52 rfl 0 rfl ?_
      exact tw_iret X hr (prj1 hf) (prj2 hf) dX6_owes_53
  · intro zz9 hf hk2
    refine tw_icmp_ne (tgt := 14) X dX6_owes_5 rfl hf (fun q8 hf => ?_) (fun q8 hf => ?_)
    · clear q8
      refine tw_aload_n X dX6_owes_8 rfl 0 rfl ?_
      refine tw_bipush (v := 51) X dX6_owes_9 rfl ?_
      obtain ⟨g7, hg7, hf⟩ := bnd hf
      refine tw_callVv (As := [.int (51 : Int32)]) (st := []) X (tC_runs hg7) tG_runs tI_runs ⟨Nat.le_of_ble_eq_true rfl, Nat.le_of_ble_eq_true rfl⟩ ⟨Nat.zero_le _, Nat.zero_le _⟩ 0 rfl rfl rfl rfl (Nat.le_of_ble_eq_true rfl) dX6_owes_11 ?_
      have hL := hk2 _ hf
      exact hL
    · clear q8
      have hL := hk2 _ hf
      exact hL
noncomputable def tF_trace (g : St) (a1 : Int32) : Option (Int32) :=
  (tF_traced g).bind fun x1 =>
  if (tF_in (a1).toInt64 (0 : Int64) ((x1 - (1 : Int32))).toInt64) = 0 then
    some (-3 : Int32)
  else
    (rd (g 40) 30 a1).bind fun x3 =>
    some x3
set_option maxHeartbeats 4000000 in
theorem tC_trace {l : Launch} {D : va_G} {A : Nat → Prop} {o : Nat} {ad : Nat → Nat} {dI : ClassId} {g : St} {a1 : Int32} {z : Int32} (hf : tF_trace g a1 = some z) : Ct l yX6_trace cX6_trace 2 (some .int) 1 25 D vwCl [(dI, .int)] A (tW o ad dI) [.ref o, .int a1] g (QI D vwCl A (tW o ad dI) z g) := by
  unfold tF_trace at hf
  refine ct_intro (own := RX6) (lv0 := [(0, .ref o), (1, .int a1)]) (by decide) rfl (Nat.le_of_ble_eq_true rfl) rfl ?_
  intro p e s m args below meth c X hr
  refine tw_iload_n X dX6_trace_0 rfl 1 rfl ?_
  refine tw_i2l X dX6_trace_1 ?_
  refine tw_lconst (v := 0) X dX6_trace_2 rfl ?_
  refine tw_aload_n X dX6_trace_3 rfl 0 rfl ?_
  obtain ⟨x1, hx1, hf⟩ := bnd hf
  refine tw_callVi (As := []) (st := [.long (0 : Int64), .long (a1).toInt64]) X (tC_traced hx1) tG_traced tI_traced ⟨Nat.le_of_ble_eq_true rfl, Nat.le_of_ble_eq_true rfl⟩ ⟨Nat.zero_le _, Nat.zero_le _⟩ 0 rfl rfl rfl rfl (Nat.le_of_ble_eq_true rfl) dX6_trace_4 ?_
  refine tw_iconst (v := 1) X dX6_trace_7 rfl ?_
  refine tw_isub X dX6_trace_8 ?_
  refine tw_i2l X dX6_trace_9 ?_
  refine tw_callSz (As := [.long (a1).toInt64, .long (0 : Int64), .long ((x1 - (1 : Int32))).toInt64]) (st := []) X (tC_in (g := g) (a1).toInt64 (0 : Int64) ((x1 - (1 : Int32))).toInt64) tG_in tI_in ⟨Nat.le_of_ble_eq_true rfl, Nat.le_of_ble_eq_true rfl⟩ ⟨Nat.zero_le _, Nat.zero_le _⟩ rfl rfl (Nat.le_of_ble_eq_true rfl) dX6_trace_10 ?_
  intro hb2
  refine tw_if_eq (tgt := 25) X dX6_trace_13 rfl hf (fun q4 hf => ?_) (fun q4 hf => ?_)
  · clear q4
    refine tw_bipush (v := -3) X dX6_trace_25 rfl ?_
    exact tw_iret X hr (Option.some.inj hf) rfl dX6_trace_27
  · clear q4
    refine tw_aload_n X dX6_trace_16 rfl 0 rfl ?_
    refine tg_ran X  dX6_trace_17 ?_
    refine tw_iload_n X dX6_trace_20 rfl 1 rfl ?_
    obtain ⟨x3, hx3, hf⟩ := bnd hf
    refine ta_ran X hx3 dX6_trace_21 ?_
    refine tw_goto (tgt := 27) X dX6_trace_22 rfl ?_
    exact tw_iret X hr (Option.some.inj hf) rfl dX6_trace_27
noncomputable def tF_person (g : St) (a1 : Int32) (a2 : Int32) (a3 : Int32) (a4 : Int32) : Option (Int32 × St) :=
  if (tF_isKind a1) = 0 then
    some ((-1 : Int32), g)
  else
    if (tF_isThing a2) = 0 then
      some ((-1 : Int32), g)
    else
      if (tF_isThing a3) = 0 then
        some ((-1 : Int32), g)
      else
        if (tF_isPart (3 : Int32) a4) = 0 then
          some ((-1 : Int32), g)
        else
          (rd (g 1) 340 (0 : Int32)).bind fun x5 =>
          if x5 = (6 : Int32) then
            some ((-2 : Int32), g)
          else
            (rd (g 1) 340 (0 : Int32)).bind fun x6 =>
            (wr g 1 340 (tF_at x6 (0 : Int32)) a1).bind fun g7 =>
            (wr g7 1 340 (tF_at x6 (1 : Int32)) a2).bind fun g8 =>
            (wr g8 1 340 (tF_at x6 (2 : Int32)) a3).bind fun g9 =>
            (wr g9 1 340 (tF_at x6 (3 : Int32)) a4).bind fun g10 =>
            (wr g10 1 340 (tF_at x6 (4 : Int32)) (0 : Int32)).bind fun g11 =>
            (rd (g11 1) 340 (0 : Int32)).bind fun x12 =>
            (wr g11 1 340 (0 : Int32) (x12 + (1 : Int32))).bind fun g13 =>
            some (x6, g13)
set_option maxHeartbeats 4000000 in
theorem tC_person {l : Launch} {D : va_G} {A : Nat → Prop} {o : Nat} {ad : Nat → Nat} {dI : ClassId} {g : St} {a1 : Int32} {a2 : Int32} {a3 : Int32} {a4 : Int32} {z : Int32 × St} (hf : tF_person g a1 a2 a3 a4 = some z) : Ct l yX6_person cX6_person 6 (some .int) 3 66 D vwCl [(dI, .int)] A (tW o ad dI) [.ref o, .int a1, .int a2, .int a3, .int a4] g (QI D vwCl A (tW o ad dI) z.1 z.2) := by
  unfold tF_person at hf
  refine ct_intro (own := RX6) (lv0 := [(0, .ref o), (1, .int a1), (2, .int a2), (3, .int a3), (4, .int a4)]) (by decide) rfl (Nat.le_of_ble_eq_true rfl) rfl ?_
  intro p e s m args below meth c X hr
  refine tw_iload_n X dX6_person_0 rfl 1 rfl ?_
  refine tw_callSz (As := [.int a1]) (st := []) X (tC_isKind (g := g) a1) tG_isKind tI_isKind ⟨Nat.le_of_ble_eq_true rfl, Nat.le_of_ble_eq_true rfl⟩ ⟨Nat.zero_le _, Nat.zero_le _⟩ rfl rfl (Nat.le_of_ble_eq_true rfl) dX6_person_1 ?_
  intro hb1
  refine tw_if_eq (tgt := 30) X dX6_person_4 rfl hf (fun q18 hf => ?_) (fun q18 hf => ?_)
  · clear q18
    refine tw_iconst (v := -1) X dX6_person_30 rfl ?_
    exact tw_iret X hr (prj1 hf) (prj2 hf) dX6_person_31
  · clear q18
    refine tw_iload_n X dX6_person_7 rfl 2 rfl ?_
    refine tw_callSz (As := [.int a2]) (st := []) X (tC_isThing (g := g) a2) tG_isThing tI_isThing ⟨Nat.le_of_ble_eq_true rfl, Nat.le_of_ble_eq_true rfl⟩ ⟨Nat.zero_le _, Nat.zero_le _⟩ rfl rfl (Nat.le_of_ble_eq_true rfl) dX6_person_8 ?_
    intro hb2
    refine tw_if_eq (tgt := 30) X dX6_person_11 rfl hf (fun q17 hf => ?_) (fun q17 hf => ?_)
    · clear q17
      refine tw_iconst (v := -1) X dX6_person_30 rfl ?_
      exact tw_iret X hr (prj1 hf) (prj2 hf) dX6_person_31
    · clear q17
      refine tw_iload_n X dX6_person_14 rfl 3 rfl ?_
      refine tw_callSz (As := [.int a3]) (st := []) X (tC_isThing (g := g) a3) tG_isThing tI_isThing ⟨Nat.le_of_ble_eq_true rfl, Nat.le_of_ble_eq_true rfl⟩ ⟨Nat.zero_le _, Nat.zero_le _⟩ rfl rfl (Nat.le_of_ble_eq_true rfl) dX6_person_15 ?_
      intro hb3
      refine tw_if_eq (tgt := 30) X dX6_person_18 rfl hf (fun q16 hf => ?_) (fun q16 hf => ?_)
      · clear q16
        refine tw_iconst (v := -1) X dX6_person_30 rfl ?_
        exact tw_iret X hr (prj1 hf) (prj2 hf) dX6_person_31
      · clear q16
        refine tw_iconst (v := 3) X dX6_person_21 rfl ?_
        refine tw_iload X dX6_person_22 4 rfl ?_
        refine tw_callSz (As := [.int (3 : Int32), .int a4]) (st := []) X (tC_isPart (g := g) (3 : Int32) a4) tG_isPart tI_isPart ⟨Nat.le_of_ble_eq_true rfl, Nat.le_of_ble_eq_true rfl⟩ ⟨Nat.zero_le _, Nat.zero_le _⟩ rfl rfl (Nat.le_of_ble_eq_true rfl) dX6_person_24 ?_
        intro hb4
        refine tw_if_ne (tgt := 32) X dX6_person_27 rfl hf (fun q15 hf => ?_) (fun q15 hf => ?_)
        · clear q15
          refine tw_iconst (v := -1) X dX6_person_30 rfl ?_
          exact tw_iret X hr (prj1 hf) (prj2 hf) dX6_person_31
        · clear q15
          refine tw_aload_n X dX6_person_32 rfl 0 rfl ?_
          refine tg_s X  dX6_person_33 ?_
          refine tw_iconst (v := 0) X dX6_person_36 rfl ?_
          obtain ⟨x5, hx5, hf⟩ := bnd hf
          refine ta_s X hx5 dX6_person_37 ?_
          refine tw_bipush (v := 6) X dX6_person_38 rfl ?_
          refine tw_icmp_ne (tgt := 46) X dX6_person_40 rfl hf (fun q14 hf => ?_) (fun q14 hf => ?_)
          · clear q14
            refine tw_bipush (v := -2) X dX6_person_43 rfl ?_
            exact tw_iret X hr (prj1 hf) (prj2 hf) dX6_person_45
          · clear q14
            refine tw_aload_n X dX6_person_46 rfl 0 rfl ?_
            refine tg_s X  dX6_person_47 ?_
            refine tw_iconst (v := 0) X dX6_person_50 rfl ?_
            obtain ⟨x6, hx6, hf⟩ := bnd hf
            refine ta_s X hx6 dX6_person_51 ?_
            refine tw_istore (lv' := [(5, .int x6), (0, .ref o), (1, .int a1), (2, .int a2), (3, .int a3), (4, .int a4)]) X dX6_person_52 (by decide) rfl ?_
            refine tw_aload_n X dX6_person_54 rfl 1 rfl ?_
            refine tg_s X  dX6_person_55 ?_
            refine tw_iload X dX6_person_58 0 rfl ?_
            refine tw_iconst (v := 0) X dX6_person_60 rfl ?_
            refine tw_callSi (As := [.int x6, .int (0 : Int32)]) (st := [.ref (ad 0)]) X (tC_at (g := g) x6 (0 : Int32)) tG_at tI_at ⟨Nat.le_of_ble_eq_true rfl, Nat.le_of_ble_eq_true rfl⟩ ⟨Nat.zero_le _, Nat.zero_le _⟩ rfl rfl (Nat.le_of_ble_eq_true rfl) dX6_person_61 ?_
            refine tw_iload_n X dX6_person_64 rfl 2 rfl ?_
            obtain ⟨g7, hg7, hf⟩ := bnd hf
            refine ts_s X hg7 dX6_person_65 ?_
            refine tw_aload_n X dX6_person_66 rfl 1 rfl ?_
            refine tg_s X  dX6_person_67 ?_
            refine tw_iload X dX6_person_70 0 rfl ?_
            refine tw_iconst (v := 1) X dX6_person_72 rfl ?_
            refine tw_callSi (As := [.int x6, .int (1 : Int32)]) (st := [.ref (ad 0)]) X (tC_at (g := g7) x6 (1 : Int32)) tG_at tI_at ⟨Nat.le_of_ble_eq_true rfl, Nat.le_of_ble_eq_true rfl⟩ ⟨Nat.zero_le _, Nat.zero_le _⟩ rfl rfl (Nat.le_of_ble_eq_true rfl) dX6_person_73 ?_
            refine tw_iload_n X dX6_person_76 rfl 3 rfl ?_
            obtain ⟨g8, hg8, hf⟩ := bnd hf
            refine ts_s X hg8 dX6_person_77 ?_
            refine tw_aload_n X dX6_person_78 rfl 1 rfl ?_
            refine tg_s X  dX6_person_79 ?_
            refine tw_iload X dX6_person_82 0 rfl ?_
            refine tw_iconst (v := 2) X dX6_person_84 rfl ?_
            refine tw_callSi (As := [.int x6, .int (2 : Int32)]) (st := [.ref (ad 0)]) X (tC_at (g := g8) x6 (2 : Int32)) tG_at tI_at ⟨Nat.le_of_ble_eq_true rfl, Nat.le_of_ble_eq_true rfl⟩ ⟨Nat.zero_le _, Nat.zero_le _⟩ rfl rfl (Nat.le_of_ble_eq_true rfl) dX6_person_85 ?_
            refine tw_iload_n X dX6_person_88 rfl 4 rfl ?_
            obtain ⟨g9, hg9, hf⟩ := bnd hf
            refine ts_s X hg9 dX6_person_89 ?_
            refine tw_aload_n X dX6_person_90 rfl 1 rfl ?_
            refine tg_s X  dX6_person_91 ?_
            refine tw_iload X dX6_person_94 0 rfl ?_
            refine tw_iconst (v := 3) X dX6_person_96 rfl ?_
            refine tw_callSi (As := [.int x6, .int (3 : Int32)]) (st := [.ref (ad 0)]) X (tC_at (g := g9) x6 (3 : Int32)) tG_at tI_at ⟨Nat.le_of_ble_eq_true rfl, Nat.le_of_ble_eq_true rfl⟩ ⟨Nat.zero_le _, Nat.zero_le _⟩ rfl rfl (Nat.le_of_ble_eq_true rfl) dX6_person_97 ?_
            refine tw_iload X dX6_person_100 5 rfl ?_
            obtain ⟨g10, hg10, hf⟩ := bnd hf
            refine ts_s X hg10 dX6_person_102 ?_
            refine tw_aload_n X dX6_person_103 rfl 1 rfl ?_
            refine tg_s X  dX6_person_104 ?_
            refine tw_iload X dX6_person_107 0 rfl ?_
            refine tw_iconst (v := 4) X dX6_person_109 rfl ?_
            refine tw_callSi (As := [.int x6, .int (4 : Int32)]) (st := [.ref (ad 0)]) X (tC_at (g := g10) x6 (4 : Int32)) tG_at tI_at ⟨Nat.le_of_ble_eq_true rfl, Nat.le_of_ble_eq_true rfl⟩ ⟨Nat.zero_le _, Nat.zero_le _⟩ rfl rfl (Nat.le_of_ble_eq_true rfl) dX6_person_110 ?_
            refine tw_iconst (v := 0) X dX6_person_113 rfl ?_
            obtain ⟨g11, hg11, hf⟩ := bnd hf
            refine ts_s X hg11 dX6_person_114 ?_
            refine tw_aload_n X dX6_person_115 rfl 1 rfl ?_
            refine tg_s X  dX6_person_116 ?_
            refine tw_iconst (v := 0) X dX6_person_119 rfl ?_
            refine tw_dup2_11 X dX6_person_120 rfl rfl ?_
            obtain ⟨x12, hx12, hf⟩ := bnd hf
            refine ta_s X hx12 dX6_person_121 ?_
            refine tw_iconst (v := 1) X dX6_person_122 rfl ?_
            refine tw_iadd X dX6_person_123 ?_
            obtain ⟨g13, hg13, hf⟩ := bnd hf
            refine ts_s X hg13 dX6_person_124 ?_
            refine tw_iload X dX6_person_125 0 rfl ?_
            exact tw_iret X hr (prj1 hf) (prj2 hf) dX6_person_127
noncomputable def tF_fact (g : St) (a1 : Int32) (a2 : Int32) : Option (Int32) :=
  if a1 = (-5 : Int32) then
    some a2
  else if a1 = (-4 : Int32) then
    (tF_wholeSet g).bind fun x2 =>
    (tF_ones x2).bind fun x3 =>
    some x3
  else if a1 = (-3 : Int32) then
    (tF_its g a2 (3 : Int32)).bind fun x5 =>
    some x5
  else if a1 = (-2 : Int32) then
    (tF_its g a2 (2 : Int32)).bind fun x7 =>
    (rd (g 1) 340 ((6 : Int32) + x7)).bind fun x8 =>
    some x8
  else if a1 = (-1 : Int32) then
    (tF_its g a2 (1 : Int32)).bind fun x10 =>
    (rd (g 1) 340 ((6 : Int32) + x10)).bind fun x11 =>
    some x11
  else 
    some a1
set_option maxHeartbeats 4000000 in
theorem tC_fact {l : Launch} {D : va_G} {A : Nat → Prop} {o : Nat} {ad : Nat → Nat} {dI : ClassId} {g : St} {a1 : Int32} {a2 : Int32} {z : Int32} (hf : tF_fact g a1 a2 = some z) : Ct l yX6_fact cX6_fact 3 (some .int) 4 86 D vwCl [(dI, .int)] A (tW o ad dI) [.ref o, .int a1, .int a2] g (QI D vwCl A (tW o ad dI) z g) := by
  unfold tF_fact at hf
  refine ct_intro (own := RX6) (lv0 := [(0, .ref o), (1, .int a1), (2, .int a2)]) (by decide) rfl (Nat.le_of_ble_eq_true rfl) rfl ?_
  intro p e s m args below meth c X hr
  refine tw_iload_n X dX6_fact_0 rfl 1 rfl ?_
  by_cases w1 : a1 = (-5 : Int32)
  · rw [if_pos w1] at hf
    refine tw_tableIn (off := 80) (tgt := 81) X dX6_fact_1 w1 (by decide) (by decide) rfl rfl ?_
    refine tw_iload_n X dX6_fact_81 rfl 2 rfl ?_
    exact tw_iret X hr (Option.some.inj hf) rfl dX6_fact_82
  · rw [if_neg w1] at hf
    by_cases w4 : a1 = (-4 : Int32)
    · rw [if_pos w4] at hf
      refine tw_tableIn (off := 72) (tgt := 73) X dX6_fact_1 w4 (by decide) (by decide) rfl rfl ?_
      refine tw_aload_n X dX6_fact_73 rfl 0 rfl ?_
      obtain ⟨x2, hx2, hf⟩ := bnd hf
      refine tw_callVi (As := []) (st := []) X (tC_wholeSet hx2) tG_wholeSet tI_wholeSet ⟨Nat.le_of_ble_eq_true rfl, Nat.le_of_ble_eq_true rfl⟩ ⟨Nat.zero_le _, Nat.zero_le _⟩ 0 rfl rfl rfl rfl (Nat.le_of_ble_eq_true rfl) dX6_fact_74 ?_
      obtain ⟨x3, hx3, hf⟩ := bnd hf
      refine tw_callSi (As := [.int x2]) (st := []) X (tC_ones (g := g) hx3) tG_ones tI_ones ⟨Nat.le_of_ble_eq_true rfl, Nat.le_of_ble_eq_true rfl⟩ ⟨Nat.zero_le _, Nat.zero_le _⟩ rfl rfl (Nat.le_of_ble_eq_true rfl) dX6_fact_77 ?_
      exact tw_iret X hr (Option.some.inj hf) rfl dX6_fact_80
    · rw [if_neg w4] at hf
      by_cases w6 : a1 = (-3 : Int32)
      · rw [if_pos w6] at hf
        refine tw_tableIn (off := 65) (tgt := 66) X dX6_fact_1 w6 (by decide) (by decide) rfl rfl ?_
        refine tw_aload_n X dX6_fact_66 rfl 0 rfl ?_
        refine tw_iload_n X dX6_fact_67 rfl 2 rfl ?_
        refine tw_iconst (v := 3) X dX6_fact_68 rfl ?_
        obtain ⟨x5, hx5, hf⟩ := bnd hf
        refine tw_callVi (As := [.int a2, .int (3 : Int32)]) (st := []) X (tC_its hx5) tG_its tI_its ⟨Nat.le_of_ble_eq_true rfl, Nat.le_of_ble_eq_true rfl⟩ ⟨Nat.zero_le _, Nat.zero_le _⟩ 0 rfl rfl rfl rfl (Nat.le_of_ble_eq_true rfl) dX6_fact_69 ?_
        exact tw_iret X hr (Option.some.inj hf) rfl dX6_fact_72
      · rw [if_neg w6] at hf
        by_cases w9 : a1 = (-2 : Int32)
        · rw [if_pos w9] at hf
          refine tw_tableIn (off := 50) (tgt := 51) X dX6_fact_1 w9 (by decide) (by decide) rfl rfl ?_
          refine tw_aload_n X dX6_fact_51 rfl 0 rfl ?_
          refine tg_s X  dX6_fact_52 ?_
          refine tw_bipush (v := 6) X dX6_fact_55 rfl ?_
          refine tw_aload_n X dX6_fact_57 rfl 0 rfl ?_
          refine tw_iload_n X dX6_fact_58 rfl 2 rfl ?_
          refine tw_iconst (v := 2) X dX6_fact_59 rfl ?_
          obtain ⟨x7, hx7, hf⟩ := bnd hf
          refine tw_callVi (As := [.int a2, .int (2 : Int32)]) (st := [.int (6 : Int32), .ref (ad 0)]) X (tC_its hx7) tG_its tI_its ⟨Nat.le_of_ble_eq_true rfl, Nat.le_of_ble_eq_true rfl⟩ ⟨Nat.zero_le _, Nat.zero_le _⟩ 0 rfl rfl rfl rfl (Nat.le_of_ble_eq_true rfl) dX6_fact_60 ?_
          refine tw_iadd X dX6_fact_63 ?_
          obtain ⟨x8, hx8, hf⟩ := bnd hf
          refine ta_s X hx8 dX6_fact_64 ?_
          exact tw_iret X hr (Option.some.inj hf) rfl dX6_fact_65
        · rw [if_neg w9] at hf
          by_cases w12 : a1 = (-1 : Int32)
          · rw [if_pos w12] at hf
            refine tw_tableIn (off := 35) (tgt := 36) X dX6_fact_1 w12 (by decide) (by decide) rfl rfl ?_
            refine tw_aload_n X dX6_fact_36 rfl 0 rfl ?_
            refine tg_s X  dX6_fact_37 ?_
            refine tw_bipush (v := 6) X dX6_fact_40 rfl ?_
            refine tw_aload_n X dX6_fact_42 rfl 0 rfl ?_
            refine tw_iload_n X dX6_fact_43 rfl 2 rfl ?_
            refine tw_iconst (v := 1) X dX6_fact_44 rfl ?_
            obtain ⟨x10, hx10, hf⟩ := bnd hf
            refine tw_callVi (As := [.int a2, .int (1 : Int32)]) (st := [.int (6 : Int32), .ref (ad 0)]) X (tC_its hx10) tG_its tI_its ⟨Nat.le_of_ble_eq_true rfl, Nat.le_of_ble_eq_true rfl⟩ ⟨Nat.zero_le _, Nat.zero_le _⟩ 0 rfl rfl rfl rfl (Nat.le_of_ble_eq_true rfl) dX6_fact_45 ?_
            refine tw_iadd X dX6_fact_48 ?_
            obtain ⟨x11, hx11, hf⟩ := bnd hf
            refine ta_s X hx11 dX6_fact_49 ?_
            exact tw_iret X hr (Option.some.inj hf) rfl dX6_fact_50
          · rw [if_neg w12] at hf
            refine tw_tableOut (tgt := 83) X dX6_fact_1 (by have w1' : a1.toInt ≠ -5 := i32_ne w1; have w4' : a1.toInt ≠ -4 := i32_ne w4; have w6' : a1.toInt ≠ -3 := i32_ne w6; have w9' : a1.toInt ≠ -2 := i32_ne w9; have w12' : a1.toInt ≠ -1 := i32_ne w12; omega) rfl ?_
            refine tw_iload_n X dX6_fact_83 rfl 1 rfl ?_
            exact tw_iret X hr (Option.some.inj hf) rfl dX6_fact_84
noncomputable def tF_findRings (g : St) (a1 : Int32) : Option (St) :=
  (pf g 0 18 (0 : Int32)).bind fun g1 =>
  iter (L := St × Int32) (T := St) (un2 fun s2a s2b => 
    (rd (s2a 1) 340 (0 : Int32)).bind fun x4 =>
    if x4 ≤ s2b then
      some (.inr s2a)
    else
      (tF_isWhole s2a s2b).bind fun x6 =>
      if x6 = 0 then
        (wr s2a 17 6 (0 : Int32) s2b).bind fun g8 =>
        (tF_circles 8 g8 (1 : Int32) ((1 : Int32) <<< (s2b &&& 31)) a1).bind fun g9 =>
        some (.inl (g9, (s2b + (1 : Int32))))
      else
        some (.inl (s2a, (s2b + (1 : Int32))))) (g1, (0 : Int32))
set_option maxHeartbeats 4000000 in
theorem tC_findRings {l : Launch} {D : va_G} {A : Nat → Prop} {o : Nat} {ad : Nat → Nat} {dI : ClassId} {g : St} {a1 : Int32} {z : St} (hf : tF_findRings g a1 = some z) : Ct l yX6_findRings cX6_findRings 3 none 13 312 D vwCl [(dI, .int)] A (tW o ad dI) [.ref o, .int a1] g (QV D vwCl A (tW o ad dI) z) := by
  unfold tF_findRings at hf
  refine ct_intro (own := RX6) (lv0 := [(0, .ref o), (1, .int a1)]) (by decide) rfl (Nat.le_of_ble_eq_true rfl) rfl ?_
  intro p e s m args below meth c X hr
  refine tw_aload_n X dX6_findRings_0 rfl 0 rfl ?_
  refine tw_iconst (v := 0) X dX6_findRings_1 rfl ?_
  obtain ⟨g1, hg1, hf⟩ := bnd hf
  refine tp_ringMany X hg1 dX6_findRings_2 ?_
  refine tw_iconst (v := 0) X dX6_findRings_5 rfl ?_
  refine tw_istore_n (lv' := [(2, .int (0 : Int32)), (0, .ref o), (1, .int a1)]) X dX6_findRings_6 rfl (by decide) rfl ?_
  refine tw_sub [1, 2, 0] (lv' := [(0, .ref o), (1, .int a1), (2, .int (0 : Int32))]) rfl ?_
  refine it_walk (P := un2 fun s2a s2b => TW p l e (rom 13 312) s m args below meth c (MQ below (QV D vwCl A (tW o ad dI) z) args s 0 0 A) D vwCl A (tW o ad dI) 3 0 0 s2a 7 [(0, .ref o), (1, .int a1), (2, .int s2b)] []) hf ?_
  rintro ⟨s2a, s2b⟩ zz12 hf hl3
  dsimp only [un2] at hf ⊢
  refine tw_iload_n X dX6_findRings_7 rfl 2 rfl ?_
  refine tw_aload_n X dX6_findRings_8 rfl 0 rfl ?_
  refine tg_s X  dX6_findRings_9 ?_
  refine tw_iconst (v := 0) X dX6_findRings_12 rfl ?_
  obtain ⟨x4, hx4, hf⟩ := bnd hf
  refine ta_s X hx4 dX6_findRings_13 ?_
  refine tw_icmp_ge (tgt := 47) X dX6_findRings_14 rfl hf (fun q11 hf => ?_) (fun q11 hf => ?_)
  · clear q11
    have hf5 := leafR hf hl3
    exact tw_vret X hr (Option.some.inj hf5) dX6_findRings_47
  · clear q11
    refine tw_aload_n X dX6_findRings_17 rfl 0 rfl ?_
    refine tw_iload_n X dX6_findRings_18 rfl 2 rfl ?_
    obtain ⟨x6, hx6, hf⟩ := bnd hf
    refine tw_callVz (As := [.int s2b]) (st := []) X (tC_isWhole hx6) tG_isWhole tI_isWhole ⟨Nat.le_of_ble_eq_true rfl, Nat.le_of_ble_eq_true rfl⟩ ⟨Nat.zero_le _, Nat.zero_le _⟩ 0 rfl rfl rfl rfl (Nat.le_of_ble_eq_true rfl) dX6_findRings_19 ?_
    intro hb7
    refine tw_if_ne (tgt := 41) X dX6_findRings_22 rfl hf (fun q10 hf => ?_) (fun q10 hf => ?_)
    · clear q10
      refine tw_aload_n X dX6_findRings_25 rfl 0 rfl ?_
      refine tg_circle X  dX6_findRings_26 ?_
      refine tw_iconst (v := 0) X dX6_findRings_29 rfl ?_
      refine tw_iload_n X dX6_findRings_30 rfl 2 rfl ?_
      obtain ⟨g8, hg8, hf⟩ := bnd hf
      refine ts_circle X hg8 dX6_findRings_31 ?_
      refine tw_aload_n X dX6_findRings_32 rfl 0 rfl ?_
      refine tw_iconst (v := 1) X dX6_findRings_33 rfl ?_
      refine tw_iconst (v := 1) X dX6_findRings_34 rfl ?_
      refine tw_iload_n X dX6_findRings_35 rfl 2 rfl ?_
      refine tw_ishl X dX6_findRings_36 ?_
      refine tw_iload_n X dX6_findRings_37 rfl 1 rfl ?_
      obtain ⟨g9, hg9, hf⟩ := bnd hf
      refine tw_callVv (As := [.int (1 : Int32), .int ((1 : Int32) <<< (s2b &&& 31)), .int a1]) (st := []) X (tC_circles 8 _ _ _ _ _ hg9) tG_circles tI_circles ⟨Nat.le_of_ble_eq_true rfl, Nat.le_of_ble_eq_true rfl⟩ ⟨Nat.zero_le _, Nat.zero_le _⟩ 0 rfl rfl rfl rfl (Nat.le_of_ble_eq_true rfl) dX6_findRings_38 ?_
      refine tw_iinc (q := 2) (v := (s2b + (1 : Int32))) (lv' := [(2, .int (s2b + (1 : Int32))), (0, .ref o), (1, .int a1)]) X dX6_findRings_41 rfl rfl (by decide) rfl ?_
      refine tw_goto (tgt := 7) X dX6_findRings_44 rfl ?_
      refine tw_sub [1, 2, 0] (lv' := [(0, .ref o), (1, .int a1), (2, .int (s2b + (1 : Int32)))]) rfl ?_
      have hL := leafL hf hl3
      exact hL
    · clear q10
      refine tw_iinc (q := 2) (v := (s2b + (1 : Int32))) (lv' := [(2, .int (s2b + (1 : Int32))), (0, .ref o), (1, .int a1)]) X dX6_findRings_41 rfl rfl (by decide) rfl ?_
      refine tw_goto (tgt := 7) X dX6_findRings_44 rfl ?_
      refine tw_sub [1, 2, 0] (lv' := [(0, .ref o), (1, .int a1), (2, .int (s2b + (1 : Int32)))]) rfl ?_
      have hL := leafL hf hl3
      exact hL
