/-! THE TWIN's METHODS: a function and a contract each (printed by gen/mk_twin.py) -/
set_option maxRecDepth 100000
noncomputable def tF_all (rc : St → Option (St)) (g : St) : Option (St) :=
  (tF_one rc g).bind fun g1 =>
  iter (L := St) (T := St) (fun s2 => 
    (tF_word s2).bind fun x4 =>
    if (lg_cmp x4 (1476 : Int64)) = 0 then
      (tF_wants s2 (1 : Int32)).bind fun g5 =>
      (tF_one rc g5).bind fun g6 =>
      (tF_writes g6 (-21 : Int32)).bind fun g7 =>
      some (.inl g7)
    else
      some (.inr s2)) g1
set_option maxHeartbeats 4000000 in
theorem tC_all {l : Launch} {D : va_G} {A : Nat → Prop} {o : Nat} {ad : Nat → Nat} {dI : ClassId} {F Lo : Nat} {rc : St → Option (St)} (hrec : ∀ (g : St) (z : St), rc g = some z → Ct l yX6_condition cX6_condition 1 none F Lo D vwCl [(dI, .int)] A (tW o ad dI) [.ref o] g (QV D vwCl A (tW o ad dI) z)) {g : St} {z : St} (hf : tF_all rc g = some z) : Ct l yX6_all cX6_all 1 none (F + 8) (Lo + 174) D vwCl [(dI, .int)] A (tW o ad dI) [.ref o] g (QV D vwCl A (tW o ad dI) z) := by
  unfold tF_all at hf
  refine ct_intro (own := RX6) (lv0 := [(0, .ref o)]) (by decide) rfl (Nat.le_of_ble_eq_true rfl) rfl ?_
  intro p e s m args below meth c X hr
  refine tw_aload_n X dX6_all_0 rfl 0 rfl ?_
  obtain ⟨g1, hg1, hf⟩ := bnd hf
  refine tw_callVv (As := []) (st := []) X (tC_one hrec hg1) tG_one tI_one (rom_le (by omega) (by omega)) ⟨Nat.zero_le _, Nat.zero_le _⟩ 0 rfl rfl rfl rfl (Nat.le_of_ble_eq_true rfl) dX6_all_1 ?_
  refine it_walk (P := fun s2 : St => TW p l e (rom (F + 8) (Lo + 174)) s m args below meth c (MQ below (QV D vwCl A (tW o ad dI) z) args s 0 0 A) D vwCl A (tW o ad dI) 1 0 0 s2 4 [(0, .ref o)] []) hf ?_
  intro s2 zz10 hf hl3
  refine tw_aload_n X dX6_all_4 rfl 0 rfl ?_
  obtain ⟨x4, hx4, hf⟩ := bnd hf
  refine tw_callVl (As := []) (st := []) X (tC_word hx4) tG_word tI_word (rom_le (by omega) (by omega)) ⟨Nat.zero_le _, Nat.zero_le _⟩ 0 rfl rfl rfl rfl (Nat.le_of_ble_eq_true rfl) dX6_all_5 ?_
  refine tw_ldc2 (v := 1476) X q2096 dX6_all_8 ?_
  refine tw_lcmp X dX6_all_11 ?_
  refine tw_if_ne (tgt := 33) X dX6_all_12 rfl hf (fun q9 hf => ?_) (fun q9 hf => ?_)
  · clear q9
    refine tw_aload_n X dX6_all_15 rfl 0 rfl ?_
    refine tw_iconst (v := 1) X dX6_all_16 rfl ?_
    obtain ⟨g5, hg5, hf⟩ := bnd hf
    refine tw_callVv (As := [.int (1 : Int32)]) (st := []) X (tC_wants hg5) tG_wants tI_wants (rom_le (by omega) (by omega)) ⟨Nat.zero_le _, Nat.zero_le _⟩ 0 rfl rfl rfl rfl (Nat.le_of_ble_eq_true rfl) dX6_all_17 ?_
    refine tw_aload_n X dX6_all_20 rfl 0 rfl ?_
    obtain ⟨g6, hg6, hf⟩ := bnd hf
    refine tw_callVv (As := []) (st := []) X (tC_one hrec hg6) tG_one tI_one (rom_le (by omega) (by omega)) ⟨Nat.zero_le _, Nat.zero_le _⟩ 0 rfl rfl rfl rfl (Nat.le_of_ble_eq_true rfl) dX6_all_21 ?_
    refine tw_aload_n X dX6_all_24 rfl 0 rfl ?_
    refine tw_bipush (v := -21) X dX6_all_25 rfl ?_
    obtain ⟨g7, hg7, hf⟩ := bnd hf
    refine tw_callVv (As := [.int (-21 : Int32)]) (st := []) X (tC_writes hg7) tG_writes tI_writes (rom_le (by omega) (by omega)) ⟨Nat.zero_le _, Nat.zero_le _⟩ 0 rfl rfl rfl rfl (Nat.le_of_ble_eq_true rfl) dX6_all_27 ?_
    refine tw_goto (tgt := 4) X dX6_all_30 rfl ?_
    have hL := leafL hf hl3
    exact hL
  · clear q9
    have hf8 := leafR hf hl3
    exact tw_vret X hr (Option.some.inj hf8) dX6_all_33
noncomputable def tF_makeAll (g : St) (a1 : Int32) (a2 : Int32) (a3 : Int32) : Option (Int32 × St) :=
  if (tF_isSpan a1 a3) = 0 then
    some ((-1 : Int32), g)
  else
    (tF_whyNot g a1 (0 : Int32)).bind fun x2 =>
    if x2 = 0 then
      iter (L := St × Int32 × Int32) (T := Int32 × St) (un3 fun s3a s3b s3c => 
        if a3 ≤ s3c then
          some (.inr (s3b, s3a))
        else
          (tF_isItem s3a a1 ((a2).toInt64 + (s3c).toInt64)).bind fun x6 =>
          if x6 = 0 then
            some (.inr ((-12 : Int32), s3a))
          else
            (tF_isOnTurn s3a a1 (a2 + s3c)).bind (un2 fun y9a y9b =>
            if y9a = 0 then
              some (.inl (y9b, s3b, (s3c + (1 : Int32))))
            else
              (rd (y9b 36) 160 ((((40 : Int32) * a1) + a2) + s3c)).bind fun x11 =>
              (tF_makes y9b x11).bind fun g12 =>
              some (.inl (g12, (s3b + (1 : Int32)), (s3c + (1 : Int32)))))) (g, (0 : Int32), (0 : Int32))
    else
      some (x2, g)
set_option maxHeartbeats 4000000 in
theorem tC_makeAll {l : Launch} {D : va_G} {A : Nat → Prop} {o : Nat} {ad : Nat → Nat} {dI : ClassId} {g : St} {a1 : Int32} {a2 : Int32} {a3 : Int32} {z : Int32 × St} (hf : tF_makeAll g a1 a2 a3 = some z) : Ct l yX6_makeAll cX6_makeAll 7 (some .int) 9 208 D vwCl [(dI, .int)] A (tW o ad dI) [.ref o, .int a1, .int a2, .int a3] g (QI D vwCl A (tW o ad dI) z.1 z.2) := by
  unfold tF_makeAll at hf
  refine ct_intro (own := RX6) (lv0 := [(0, .ref o), (1, .int a1), (2, .int a2), (3, .int a3)]) (by decide) rfl (Nat.le_of_ble_eq_true rfl) rfl ?_
  intro p e s m args below meth c X hr
  refine tw_aload_n X dX6_makeAll_0 rfl 0 rfl ?_
  refine tw_iload_n X dX6_makeAll_1 rfl 1 rfl ?_
  refine tw_iload_n X dX6_makeAll_2 rfl 3 rfl ?_
  refine tw_callVz (As := [.int a1, .int a3]) (st := []) X (tC_isSpan (g := g) a1 a3) tG_isSpan tI_isSpan ⟨Nat.le_of_ble_eq_true rfl, Nat.le_of_ble_eq_true rfl⟩ ⟨Nat.zero_le _, Nat.zero_le _⟩ 0 rfl rfl rfl rfl (Nat.le_of_ble_eq_true rfl) dX6_makeAll_3 ?_
  intro hb1
  refine tw_if_ne (tgt := 11) X dX6_makeAll_6 rfl hf (fun q18 hf => ?_) (fun q18 hf => ?_)
  · clear q18
    refine tw_iconst (v := -1) X dX6_makeAll_9 rfl ?_
    exact tw_iret X hr (prj1 hf) (prj2 hf) dX6_makeAll_10
  · clear q18
    refine tw_aload_n X dX6_makeAll_11 rfl 0 rfl ?_
    refine tw_iload_n X dX6_makeAll_12 rfl 1 rfl ?_
    refine tw_iconst (v := 0) X dX6_makeAll_13 rfl ?_
    obtain ⟨x2, hx2, hf⟩ := bnd hf
    refine tw_callVi (As := [.int a1, .int (0 : Int32)]) (st := []) X (tC_whyNot hx2) tG_whyNot tI_whyNot ⟨Nat.le_of_ble_eq_true rfl, Nat.le_of_ble_eq_true rfl⟩ ⟨Nat.zero_le _, Nat.zero_le _⟩ 0 rfl rfl rfl rfl (Nat.le_of_ble_eq_true rfl) dX6_makeAll_14 ?_
    refine tw_istore (lv' := [(4, .int x2), (0, .ref o), (1, .int a1), (2, .int a2), (3, .int a3)]) X dX6_makeAll_17 (by decide) rfl ?_
    refine tw_iload X dX6_makeAll_19 0 rfl ?_
    refine tw_if_eq (tgt := 27) X dX6_makeAll_21 rfl hf (fun q17 hf => ?_) (fun q17 hf => ?_)
    · clear q17
      refine tw_iconst (v := 0) X dX6_makeAll_27 rfl ?_
      refine tw_istore (lv' := [(5, .int (0 : Int32)), (4, .int x2), (0, .ref o), (1, .int a1), (2, .int a2), (3, .int a3)]) X dX6_makeAll_28 (by decide) rfl ?_
      refine tw_iconst (v := 0) X dX6_makeAll_30 rfl ?_
      refine tw_istore (lv' := [(6, .int (0 : Int32)), (5, .int (0 : Int32)), (4, .int x2), (0, .ref o), (1, .int a1), (2, .int a2), (3, .int a3)]) X dX6_makeAll_31 (by decide) rfl ?_
      refine tw_sub [3, 4, 5, 6, 1, 0] (lv' := [(0, .ref o), (1, .int a1), (2, .int a2), (3, .int a3), (5, .int (0 : Int32)), (6, .int (0 : Int32))]) rfl ?_
      refine it_walk (P := un3 fun s3a s3b s3c => TW p l e (rom 9 208) s m args below meth c (MQ below (QI D vwCl A (tW o ad dI) z.1 z.2) args s 0 0 A) D vwCl A (tW o ad dI) 7 0 0 s3a 33 [(0, .ref o), (1, .int a1), (2, .int a2), (3, .int a3), (5, .int s3b), (6, .int s3c)] []) hf ?_
      rintro ⟨s3a, s3b, s3c⟩ zz16 hf hl4
      dsimp only [un3] at hf ⊢
      refine tw_iload X dX6_makeAll_33 5 rfl ?_
      refine tw_iload_n X dX6_makeAll_35 rfl 3 rfl ?_
      refine tw_icmp_ge (tgt := 95) X dX6_makeAll_36 rfl hf (fun q15 hf => ?_) (fun q15 hf => ?_)
      · clear q15
        refine tw_iload X dX6_makeAll_95 4 rfl ?_
        have hf5 := leafR hf hl4
        exact tw_iret X hr (prj1 hf5) (prj2 hf5) dX6_makeAll_97
      · clear q15
        refine tw_aload_n X dX6_makeAll_39 rfl 0 rfl ?_
        refine tw_iload_n X dX6_makeAll_40 rfl 1 rfl ?_
        refine tw_iload_n X dX6_makeAll_41 rfl 2 rfl ?_
        refine tw_i2l X dX6_makeAll_42 ?_
        refine tw_iload X dX6_makeAll_43 5 rfl ?_
        refine tw_i2l X dX6_makeAll_45 ?_
        refine tw_ladd X dX6_makeAll_46 ?_
        obtain ⟨x6, hx6, hf⟩ := bnd hf
        refine tw_callVz (As := [.int a1, .long ((a2).toInt64 + (s3c).toInt64)]) (st := []) X (tC_isItem hx6) tG_isItem tI_isItem ⟨Nat.le_of_ble_eq_true rfl, Nat.le_of_ble_eq_true rfl⟩ ⟨Nat.zero_le _, Nat.zero_le _⟩ 0 rfl rfl rfl rfl (Nat.le_of_ble_eq_true rfl) dX6_makeAll_47 ?_
        intro hb7
        refine tw_if_ne (tgt := 56) X dX6_makeAll_50 rfl hf (fun q14 hf => ?_) (fun q14 hf => ?_)
        · clear q14
          refine tw_bipush (v := -12) X dX6_makeAll_53 rfl ?_
          have hf8 := leafR hf hl4
          exact tw_iret X hr (prj1 hf8) (prj2 hf8) dX6_makeAll_55
        · clear q14
          refine tw_aload_n X dX6_makeAll_56 rfl 0 rfl ?_
          refine tw_iload_n X dX6_makeAll_57 rfl 1 rfl ?_
          refine tw_iload_n X dX6_makeAll_58 rfl 2 rfl ?_
          refine tw_iload X dX6_makeAll_59 5 rfl ?_
          refine tw_iadd X dX6_makeAll_61 ?_
          obtain ⟨⟨y9a, y9b⟩, hy9, hf⟩ := bnd hf
          dsimp only [un2] at hf
          refine tw_callVz (As := [.int a1, .int (a2 + s3c)]) (st := []) X (tC_isOnTurn hy9) tG_isOnTurn tI_isOnTurn ⟨Nat.le_of_ble_eq_true rfl, Nat.le_of_ble_eq_true rfl⟩ ⟨Nat.zero_le _, Nat.zero_le _⟩ 0 rfl rfl rfl rfl (Nat.le_of_ble_eq_true rfl) dX6_makeAll_62 ?_
          intro hb10
          refine tw_if_eq (tgt := 89) X dX6_makeAll_65 rfl hf (fun q13 hf => ?_) (fun q13 hf => ?_)
          · clear q13
            refine tw_iinc (q := 5) (v := (s3c + (1 : Int32))) (lv' := [(6, .int (s3c + (1 : Int32))), (0, .ref o), (1, .int a1), (2, .int a2), (3, .int a3), (5, .int s3b)]) X dX6_makeAll_89 rfl rfl (by decide) rfl ?_
            refine tw_goto (tgt := 33) X dX6_makeAll_92 rfl ?_
            refine tw_sub [1, 2, 3, 4, 5, 0] (lv' := [(0, .ref o), (1, .int a1), (2, .int a2), (3, .int a3), (5, .int s3b), (6, .int (s3c + (1 : Int32)))]) rfl ?_
            have hL := leafL hf hl4
            exact hL
          · clear q13
            refine tw_aload_n X dX6_makeAll_68 rfl 0 rfl ?_
            refine tw_aload_n X dX6_makeAll_69 rfl 0 rfl ?_
            refine tg_items X  dX6_makeAll_70 ?_
            refine tw_bipush (v := 40) X dX6_makeAll_73 rfl ?_
            refine tw_iload_n X dX6_makeAll_75 rfl 1 rfl ?_
            refine tw_imul X dX6_makeAll_76 ?_
            refine tw_iload_n X dX6_makeAll_77 rfl 2 rfl ?_
            refine tw_iadd X dX6_makeAll_78 ?_
            refine tw_iload X dX6_makeAll_79 5 rfl ?_
            refine tw_iadd X dX6_makeAll_81 ?_
            obtain ⟨x11, hx11, hf⟩ := bnd hf
            refine ta_items X hx11 dX6_makeAll_82 ?_
            obtain ⟨g12, hg12, hf⟩ := bnd hf
            refine tw_callVv (As := [.int x11]) (st := []) X (tC_makes hg12) tG_makes tI_makes ⟨Nat.le_of_ble_eq_true rfl, Nat.le_of_ble_eq_true rfl⟩ ⟨Nat.zero_le _, Nat.zero_le _⟩ 0 rfl rfl rfl rfl (Nat.le_of_ble_eq_true rfl) dX6_makeAll_83 ?_
            refine tw_iinc (q := 4) (v := (s3b + (1 : Int32))) (lv' := [(5, .int (s3b + (1 : Int32))), (0, .ref o), (1, .int a1), (2, .int a2), (3, .int a3), (6, .int s3c)]) X dX6_makeAll_86 rfl rfl (by decide) rfl ?_
            refine tw_iinc (q := 5) (v := (s3c + (1 : Int32))) (lv' := [(6, .int (s3c + (1 : Int32))), (5, .int (s3b + (1 : Int32))), (0, .ref o), (1, .int a1), (2, .int a2), (3, .int a3)]) X dX6_makeAll_89 rfl rfl (by decide) rfl ?_
            refine tw_goto (tgt := 33) X dX6_makeAll_92 rfl ?_
            refine tw_sub [2, 3, 4, 5, 1, 0] (lv' := [(0, .ref o), (1, .int a1), (2, .int a2), (3, .int a3), (5, .int (s3b + (1 : Int32))), (6, .int (s3c + (1 : Int32)))]) rfl ?_
            have hL := leafL hf hl4
            exact hL
    · clear q17
      refine tw_iload X dX6_makeAll_24 0 rfl ?_
      exact tw_iret X hr (prj1 hf) (prj2 hf) dX6_makeAll_26
noncomputable def tF_cans (g : St) (a1 : Int32) : Option (Int32 × St) :=
  if (-1 : Int32) ≤ a1 then
    (tF_nextChange g a1).bind (un2 fun y1a y1b =>
    if 0 ≤ y1a then
      some (y1a, y1b)
    else
      some ((-3 : Int32), y1b))
  else
    some ((-1 : Int32), g)
set_option maxHeartbeats 4000000 in
theorem tC_cans {l : Launch} {D : va_G} {A : Nat → Prop} {o : Nat} {ad : Nat → Nat} {dI : ClassId} {g : St} {a1 : Int32} {z : Int32 × St} (hf : tF_cans g a1 = some z) : Ct l yX6_cans cX6_cans 3 (some .int) 9 208 D vwCl [(dI, .int)] A (tW o ad dI) [.ref o, .int a1] g (QI D vwCl A (tW o ad dI) z.1 z.2) := by
  unfold tF_cans at hf
  refine ct_intro (own := RX6) (lv0 := [(0, .ref o), (1, .int a1)]) (by decide) rfl (Nat.le_of_ble_eq_true rfl) rfl ?_
  intro p e s m args below meth c X hr
  refine tw_iload_n X dX6_cans_0 rfl 1 rfl ?_
  refine tw_iconst (v := -1) X dX6_cans_1 rfl ?_
  refine tw_icmp_ge (tgt := 7) X dX6_cans_2 rfl hf (fun q3 hf => ?_) (fun q3 hf => ?_)
  · clear q3
    refine tw_aload_n X dX6_cans_7 rfl 0 rfl ?_
    refine tw_iload_n X dX6_cans_8 rfl 1 rfl ?_
    obtain ⟨⟨y1a, y1b⟩, hy1, hf⟩ := bnd hf
    dsimp only [un2] at hf
    refine tw_callVi (As := [.int a1]) (st := []) X (tC_nextChange hy1) tG_nextChange tI_nextChange ⟨Nat.le_of_ble_eq_true rfl, Nat.le_of_ble_eq_true rfl⟩ ⟨Nat.zero_le _, Nat.zero_le _⟩ 0 rfl rfl rfl rfl (Nat.le_of_ble_eq_true rfl) dX6_cans_9 ?_
    refine tw_istore_n (lv' := [(2, .int y1a), (0, .ref o), (1, .int a1)]) X dX6_cans_12 rfl (by decide) rfl ?_
    refine tw_iload_n X dX6_cans_13 rfl 0 rfl ?_
    refine tw_if_ge (tgt := 22) X dX6_cans_14 rfl hf (fun q2 hf => ?_) (fun q2 hf => ?_)
    · clear q2
      refine tw_iload_n X dX6_cans_22 rfl 0 rfl ?_
      exact tw_iret X hr (prj1 hf) (prj2 hf) dX6_cans_23
    · clear q2
      refine tw_bipush (v := -3) X dX6_cans_17 rfl ?_
      refine tw_goto (tgt := 23) X dX6_cans_19 rfl ?_
      exact tw_iret X hr (prj1 hf) (prj2 hf) dX6_cans_23
  · clear q3
    refine tw_iconst (v := -1) X dX6_cans_5 rfl ?_
    exact tw_iret X hr (prj1 hf) (prj2 hf) dX6_cans_6
noncomputable def tF_make (g : St) (a1 : Int32) (a2 : Int32) : Option (Int32 × St) :=
  (tF_isChange g a1 a2).bind fun x1 =>
  if x1 = 0 then
    some ((-1 : Int32), g)
  else
    (tF_canBe g (((10 : Int32) * a1) + a2)).bind (un2 fun y3a y3b =>
    if y3a = 0 then
      some ((-4 : Int32), y3b)
    else
      (tF_makes y3b (((10 : Int32) * a1) + a2)).bind fun g5 =>
      some ((g5 0 7), g5))
set_option maxHeartbeats 4000000 in
theorem tC_make {l : Launch} {D : va_G} {A : Nat → Prop} {o : Nat} {ad : Nat → Nat} {dI : ClassId} {g : St} {a1 : Int32} {a2 : Int32} {z : Int32 × St} (hf : tF_make g a1 a2 = some z) : Ct l yX6_make cX6_make 3 (some .int) 9 208 D vwCl [(dI, .int)] A (tW o ad dI) [.ref o, .int a1, .int a2] g (QI D vwCl A (tW o ad dI) z.1 z.2) := by
  unfold tF_make at hf
  refine ct_intro (own := RX6) (lv0 := [(0, .ref o), (1, .int a1), (2, .int a2)]) (by decide) rfl (Nat.le_of_ble_eq_true rfl) rfl ?_
  intro p e s m args below meth c X hr
  refine tw_aload_n X dX6_make_0 rfl 0 rfl ?_
  refine tw_iload_n X dX6_make_1 rfl 1 rfl ?_
  refine tw_iload_n X dX6_make_2 rfl 2 rfl ?_
  obtain ⟨x1, hx1, hf⟩ := bnd hf
  refine tw_callVz (As := [.int a1, .int a2]) (st := []) X (tC_isChange hx1) tG_isChange tI_isChange ⟨Nat.le_of_ble_eq_true rfl, Nat.le_of_ble_eq_true rfl⟩ ⟨Nat.zero_le _, Nat.zero_le _⟩ 0 rfl rfl rfl rfl (Nat.le_of_ble_eq_true rfl) dX6_make_3 ?_
  intro hb2
  refine tw_if_ne (tgt := 11) X dX6_make_6 rfl hf (fun q7 hf => ?_) (fun q7 hf => ?_)
  · clear q7
    refine tw_iconst (v := -1) X dX6_make_9 rfl ?_
    exact tw_iret X hr (prj1 hf) (prj2 hf) dX6_make_10
  · clear q7
    refine tw_aload_n X dX6_make_11 rfl 0 rfl ?_
    refine tw_bipush (v := 10) X dX6_make_12 rfl ?_
    refine tw_iload_n X dX6_make_14 rfl 1 rfl ?_
    refine tw_imul X dX6_make_15 ?_
    refine tw_iload_n X dX6_make_16 rfl 2 rfl ?_
    refine tw_iadd X dX6_make_17 ?_
    obtain ⟨⟨y3a, y3b⟩, hy3, hf⟩ := bnd hf
    dsimp only [un2] at hf
    refine tw_callVz (As := [.int (((10 : Int32) * a1) + a2)]) (st := []) X (tC_canBe hy3) tG_canBe tI_canBe ⟨Nat.le_of_ble_eq_true rfl, Nat.le_of_ble_eq_true rfl⟩ ⟨Nat.zero_le _, Nat.zero_le _⟩ 0 rfl rfl rfl rfl (Nat.le_of_ble_eq_true rfl) dX6_make_18 ?_
    intro hb4
    refine tw_if_ne (tgt := 27) X dX6_make_21 rfl hf (fun q6 hf => ?_) (fun q6 hf => ?_)
    · clear q6
      refine tw_bipush (v := -4) X dX6_make_24 rfl ?_
      exact tw_iret X hr (prj1 hf) (prj2 hf) dX6_make_26
    · clear q6
      refine tw_aload_n X dX6_make_27 rfl 0 rfl ?_
      refine tw_bipush (v := 10) X dX6_make_28 rfl ?_
      refine tw_iload_n X dX6_make_30 rfl 1 rfl ?_
      refine tw_imul X dX6_make_31 ?_
      refine tw_iload_n X dX6_make_32 rfl 2 rfl ?_
      refine tw_iadd X dX6_make_33 ?_
      obtain ⟨g5, hg5, hf⟩ := bnd hf
      refine tw_callVv (As := [.int (((10 : Int32) * a1) + a2)]) (st := []) X (tC_makes hg5) tG_makes tI_makes ⟨Nat.le_of_ble_eq_true rfl, Nat.le_of_ble_eq_true rfl⟩ ⟨Nat.zero_le _, Nat.zero_le _⟩ 0 rfl rfl rfl rfl (Nat.le_of_ble_eq_true rfl) dX6_make_34 ?_
      refine tw_aload_n X dX6_make_37 rfl 0 rfl ?_
      refine tg_paid X  dX6_make_38 ?_
      exact tw_iret X hr (prj1 hf) (prj2 hf) dX6_make_41
noncomputable def tF_goesAll (g : St) (a1 : Int32) : Option (St) :=
  (pf g 0 11 (0 : Int32)).bind fun g1 =>
  (pf g1 0 12 (0 : Int32)).bind fun g2 =>
  (pf g2 0 13 (-1 : Int32)).bind fun g3 =>
  (pf g3 0 14 (-1 : Int32)).bind fun g4 =>
  (tF_goes 8 g4 (0 : Int32) a1 (0 : Int32)).bind fun g5 =>
  some g5
set_option maxHeartbeats 4000000 in
theorem tC_goesAll {l : Launch} {D : va_G} {A : Nat → Prop} {o : Nat} {ad : Nat → Nat} {dI : ClassId} {g : St} {a1 : Int32} {z : St} (hf : tF_goesAll g a1 = some z) : Ct l yX6_goesAll cX6_goesAll 2 none 18 460 D vwCl [(dI, .int)] A (tW o ad dI) [.ref o, .int a1] g (QV D vwCl A (tW o ad dI) z) := by
  unfold tF_goesAll at hf
  refine ct_intro (own := RX6) (lv0 := [(0, .ref o), (1, .int a1)]) (by decide) rfl (Nat.le_of_ble_eq_true rfl) rfl ?_
  intro p e s m args below meth c X hr
  refine tw_aload_n X dX6_goesAll_0 rfl 0 rfl ?_
  refine tw_iconst (v := 0) X dX6_goesAll_1 rfl ?_
  obtain ⟨g1, hg1, hf⟩ := bnd hf
  refine tp_doneMany X hg1 dX6_goesAll_2 ?_
  refine tw_aload_n X dX6_goesAll_5 rfl 0 rfl ?_
  refine tw_iconst (v := 0) X dX6_goesAll_6 rfl ?_
  obtain ⟨g2, hg2, hf⟩ := bnd hf
  refine tp_mostWhole X hg2 dX6_goesAll_7 ?_
  refine tw_aload_n X dX6_goesAll_10 rfl 0 rfl ?_
  refine tw_iconst (v := -1) X dX6_goesAll_11 rfl ?_
  obtain ⟨g3, hg3, hf⟩ := bnd hf
  refine tp_shortestLong X hg3 dX6_goesAll_12 ?_
  refine tw_aload_n X dX6_goesAll_15 rfl 0 rfl ?_
  refine tw_iconst (v := -1) X dX6_goesAll_16 rfl ?_
  obtain ⟨g4, hg4, hf⟩ := bnd hf
  refine tp_cheapCost X hg4 dX6_goesAll_17 ?_
  refine tw_aload_n X dX6_goesAll_20 rfl 0 rfl ?_
  refine tw_iconst (v := 0) X dX6_goesAll_21 rfl ?_
  refine tw_iload_n X dX6_goesAll_22 rfl 1 rfl ?_
  refine tw_iconst (v := 0) X dX6_goesAll_23 rfl ?_
  obtain ⟨g5, hg5, hf⟩ := bnd hf
  refine tw_callVv (As := [.int (0 : Int32), .int a1, .int (0 : Int32)]) (st := []) X (tC_goes 8 _ _ _ _ _ hg5) tG_goes tI_goes ⟨Nat.le_of_ble_eq_true rfl, Nat.le_of_ble_eq_true rfl⟩ ⟨Nat.zero_le _, Nat.zero_le _⟩ 0 rfl rfl rfl rfl (Nat.le_of_ble_eq_true rfl) dX6_goesAll_24 ?_
  exact tw_vret X hr (Option.some.inj hf) dX6_goesAll_27
noncomputable def tF_ith (g : St) (a1 : Int32) : Option (Int32 × St) :=
  if (tF_isPlace a1) = 0 then
    some ((-1 : Int32), g)
  else
    (tF_goesAll g (6 : Int32)).bind fun g2 =>
    if (g2 0 13) ≤ a1 then
      some ((-3 : Int32), g2)
    else
      (rd (g2 10) 6 a1).bind fun x3 =>
      some (x3, g2)
set_option maxHeartbeats 4000000 in
theorem tC_ith {l : Launch} {D : va_G} {A : Nat → Prop} {o : Nat} {ad : Nat → Nat} {dI : ClassId} {g : St} {a1 : Int32} {z : Int32 × St} (hf : tF_ith g a1 = some z) : Ct l yX6_ith cX6_ith 2 (some .int) 19 481 D vwCl [(dI, .int)] A (tW o ad dI) [.ref o, .int a1] g (QI D vwCl A (tW o ad dI) z.1 z.2) := by
  unfold tF_ith at hf
  refine ct_intro (own := RX6) (lv0 := [(0, .ref o), (1, .int a1)]) (by decide) rfl (Nat.le_of_ble_eq_true rfl) rfl ?_
  intro p e s m args below meth c X hr
  refine tw_iload_n X dX6_ith_0 rfl 1 rfl ?_
  refine tw_callSz (As := [.int a1]) (st := []) X (tC_isPlace (g := g) a1) tG_isPlace tI_isPlace ⟨Nat.le_of_ble_eq_true rfl, Nat.le_of_ble_eq_true rfl⟩ ⟨Nat.zero_le _, Nat.zero_le _⟩ rfl rfl (Nat.le_of_ble_eq_true rfl) dX6_ith_1 ?_
  intro hb1
  refine tw_if_ne (tgt := 9) X dX6_ith_4 rfl hf (fun q5 hf => ?_) (fun q5 hf => ?_)
  · clear q5
    refine tw_iconst (v := -1) X dX6_ith_7 rfl ?_
    exact tw_iret X hr (prj1 hf) (prj2 hf) dX6_ith_8
  · clear q5
    refine tw_aload_n X dX6_ith_9 rfl 0 rfl ?_
    refine tw_bipush (v := 6) X dX6_ith_10 rfl ?_
    obtain ⟨g2, hg2, hf⟩ := bnd hf
    refine tw_callVv (As := [.int (6 : Int32)]) (st := []) X (tC_goesAll hg2) tG_goesAll tI_goesAll ⟨Nat.le_of_ble_eq_true rfl, Nat.le_of_ble_eq_true rfl⟩ ⟨Nat.zero_le _, Nat.zero_le _⟩ 0 rfl rfl rfl rfl (Nat.le_of_ble_eq_true rfl) dX6_ith_12 ?_
    refine tw_iload_n X dX6_ith_15 rfl 1 rfl ?_
    refine tw_aload_n X dX6_ith_16 rfl 0 rfl ?_
    refine tg_shortestLong X  dX6_ith_17 ?_
    refine tw_icmp_ge (tgt := 32) X dX6_ith_20 rfl hf (fun q4 hf => ?_) (fun q4 hf => ?_)
    · clear q4
      refine tw_bipush (v := -3) X dX6_ith_32 rfl ?_
      exact tw_iret X hr (prj1 hf) (prj2 hf) dX6_ith_34
    · clear q4
      refine tw_aload_n X dX6_ith_23 rfl 0 rfl ?_
      refine tg_shortest X  dX6_ith_24 ?_
      refine tw_iload_n X dX6_ith_27 rfl 1 rfl ?_
      obtain ⟨x3, hx3, hf⟩ := bnd hf
      refine ta_shortest X hx3 dX6_ith_28 ?_
      refine tw_goto (tgt := 34) X dX6_ith_29 rfl ?_
      exact tw_iret X hr (prj1 hf) (prj2 hf) dX6_ith_34
noncomputable def tF_ways (g : St) (a1 : Int32) : Option (Int32 × St) :=
  if (tF_isLong a1) = 0 then
    some ((-1 : Int32), g)
  else
    (tF_goesAll g a1).bind fun g2 =>
    some ((g2 0 11), g2)
set_option maxHeartbeats 4000000 in
theorem tC_ways {l : Launch} {D : va_G} {A : Nat → Prop} {o : Nat} {ad : Nat → Nat} {dI : ClassId} {g : St} {a1 : Int32} {z : Int32 × St} (hf : tF_ways g a1 = some z) : Ct l yX6_ways cX6_ways 2 (some .int) 19 481 D vwCl [(dI, .int)] A (tW o ad dI) [.ref o, .int a1] g (QI D vwCl A (tW o ad dI) z.1 z.2) := by
  unfold tF_ways at hf
  refine ct_intro (own := RX6) (lv0 := [(0, .ref o), (1, .int a1)]) (by decide) rfl (Nat.le_of_ble_eq_true rfl) rfl ?_
  intro p e s m args below meth c X hr
  refine tw_iload_n X dX6_ways_0 rfl 1 rfl ?_
  refine tw_callSz (As := [.int a1]) (st := []) X (tC_isLong (g := g) a1) tG_isLong tI_isLong ⟨Nat.le_of_ble_eq_true rfl, Nat.le_of_ble_eq_true rfl⟩ ⟨Nat.zero_le _, Nat.zero_le _⟩ rfl rfl (Nat.le_of_ble_eq_true rfl) dX6_ways_1 ?_
  intro hb1
  refine tw_if_ne (tgt := 9) X dX6_ways_4 rfl hf (fun q3 hf => ?_) (fun q3 hf => ?_)
  · clear q3
    refine tw_iconst (v := -1) X dX6_ways_7 rfl ?_
    exact tw_iret X hr (prj1 hf) (prj2 hf) dX6_ways_8
  · clear q3
    refine tw_aload_n X dX6_ways_9 rfl 0 rfl ?_
    refine tw_iload_n X dX6_ways_10 rfl 1 rfl ?_
    obtain ⟨g2, hg2, hf⟩ := bnd hf
    refine tw_callVv (As := [.int a1]) (st := []) X (tC_goesAll hg2) tG_goesAll tI_goesAll ⟨Nat.le_of_ble_eq_true rfl, Nat.le_of_ble_eq_true rfl⟩ ⟨Nat.zero_le _, Nat.zero_le _⟩ 0 rfl rfl rfl rfl (Nat.le_of_ble_eq_true rfl) dX6_ways_11 ?_
    refine tw_aload_n X dX6_ways_14 rfl 0 rfl ?_
    refine tg_doneMany X  dX6_ways_15 ?_
    exact tw_iret X hr (prj1 hf) (prj2 hf) dX6_ways_18
noncomputable def tF_most (g : St) (a1 : Int32) : Option (Int32 × St) :=
  if (tF_isLong a1) = 0 then
    some ((-1 : Int32), g)
  else
    (tF_goesAll g a1).bind fun g2 =>
    some ((g2 0 12), g2)
set_option maxHeartbeats 4000000 in
theorem tC_most {l : Launch} {D : va_G} {A : Nat → Prop} {o : Nat} {ad : Nat → Nat} {dI : ClassId} {g : St} {a1 : Int32} {z : Int32 × St} (hf : tF_most g a1 = some z) : Ct l yX6_most cX6_most 2 (some .int) 19 481 D vwCl [(dI, .int)] A (tW o ad dI) [.ref o, .int a1] g (QI D vwCl A (tW o ad dI) z.1 z.2) := by
  unfold tF_most at hf
  refine ct_intro (own := RX6) (lv0 := [(0, .ref o), (1, .int a1)]) (by decide) rfl (Nat.le_of_ble_eq_true rfl) rfl ?_
  intro p e s m args below meth c X hr
  refine tw_iload_n X dX6_most_0 rfl 1 rfl ?_
  refine tw_callSz (As := [.int a1]) (st := []) X (tC_isLong (g := g) a1) tG_isLong tI_isLong ⟨Nat.le_of_ble_eq_true rfl, Nat.le_of_ble_eq_true rfl⟩ ⟨Nat.zero_le _, Nat.zero_le _⟩ rfl rfl (Nat.le_of_ble_eq_true rfl) dX6_most_1 ?_
  intro hb1
  refine tw_if_ne (tgt := 9) X dX6_most_4 rfl hf (fun q3 hf => ?_) (fun q3 hf => ?_)
  · clear q3
    refine tw_iconst (v := -1) X dX6_most_7 rfl ?_
    exact tw_iret X hr (prj1 hf) (prj2 hf) dX6_most_8
  · clear q3
    refine tw_aload_n X dX6_most_9 rfl 0 rfl ?_
    refine tw_iload_n X dX6_most_10 rfl 1 rfl ?_
    obtain ⟨g2, hg2, hf⟩ := bnd hf
    refine tw_callVv (As := [.int a1]) (st := []) X (tC_goesAll hg2) tG_goesAll tI_goesAll ⟨Nat.le_of_ble_eq_true rfl, Nat.le_of_ble_eq_true rfl⟩ ⟨Nat.zero_le _, Nat.zero_le _⟩ 0 rfl rfl rfl rfl (Nat.le_of_ble_eq_true rfl) dX6_most_11 ?_
    refine tw_aload_n X dX6_most_14 rfl 0 rfl ?_
    refine tg_mostWhole X  dX6_most_15 ?_
    exact tw_iret X hr (prj1 hf) (prj2 hf) dX6_most_18
noncomputable def tF_cheapest (g : St) (a1 : Int32) : Option (Int32 × St) :=
  if (tF_isLong a1) = 0 then
    some ((-1 : Int32), g)
  else
    (tF_goesAll g a1).bind fun g2 =>
    if 0 ≤ (g2 0 14) then
      some ((g2 0 14), g2)
    else
      some ((-3 : Int32), g2)
set_option maxHeartbeats 4000000 in
theorem tC_cheapest {l : Launch} {D : va_G} {A : Nat → Prop} {o : Nat} {ad : Nat → Nat} {dI : ClassId} {g : St} {a1 : Int32} {z : Int32 × St} (hf : tF_cheapest g a1 = some z) : Ct l yX6_cheapest cX6_cheapest 2 (some .int) 19 481 D vwCl [(dI, .int)] A (tW o ad dI) [.ref o, .int a1] g (QI D vwCl A (tW o ad dI) z.1 z.2) := by
  unfold tF_cheapest at hf
  refine ct_intro (own := RX6) (lv0 := [(0, .ref o), (1, .int a1)]) (by decide) rfl (Nat.le_of_ble_eq_true rfl) rfl ?_
  intro p e s m args below meth c X hr
  refine tw_iload_n X dX6_cheapest_0 rfl 1 rfl ?_
  refine tw_callSz (As := [.int a1]) (st := []) X (tC_isLong (g := g) a1) tG_isLong tI_isLong ⟨Nat.le_of_ble_eq_true rfl, Nat.le_of_ble_eq_true rfl⟩ ⟨Nat.zero_le _, Nat.zero_le _⟩ rfl rfl (Nat.le_of_ble_eq_true rfl) dX6_cheapest_1 ?_
  intro hb1
  refine tw_if_ne (tgt := 9) X dX6_cheapest_4 rfl hf (fun q4 hf => ?_) (fun q4 hf => ?_)
  · clear q4
    refine tw_iconst (v := -1) X dX6_cheapest_7 rfl ?_
    exact tw_iret X hr (prj1 hf) (prj2 hf) dX6_cheapest_8
  · clear q4
    refine tw_aload_n X dX6_cheapest_9 rfl 0 rfl ?_
    refine tw_iload_n X dX6_cheapest_10 rfl 1 rfl ?_
    obtain ⟨g2, hg2, hf⟩ := bnd hf
    refine tw_callVv (As := [.int a1]) (st := []) X (tC_goesAll hg2) tG_goesAll tI_goesAll ⟨Nat.le_of_ble_eq_true rfl, Nat.le_of_ble_eq_true rfl⟩ ⟨Nat.zero_le _, Nat.zero_le _⟩ 0 rfl rfl rfl rfl (Nat.le_of_ble_eq_true rfl) dX6_cheapest_11 ?_
    refine tw_aload_n X dX6_cheapest_14 rfl 0 rfl ?_
    refine tg_cheapCost X  dX6_cheapest_15 ?_
    refine tw_if_ge (tgt := 26) X dX6_cheapest_18 rfl hf (fun q3 hf => ?_) (fun q3 hf => ?_)
    · clear q3
      refine tw_aload_n X dX6_cheapest_26 rfl 0 rfl ?_
      refine tg_cheapCost X  dX6_cheapest_27 ?_
      exact tw_iret X hr (prj1 hf) (prj2 hf) dX6_cheapest_30
    · clear q3
      refine tw_bipush (v := -3) X dX6_cheapest_21 rfl ?_
      refine tw_goto (tgt := 30) X dX6_cheapest_23 rfl ?_
      exact tw_iret X hr (prj1 hf) (prj2 hf) dX6_cheapest_30
noncomputable def tF_cheaply (g : St) (a1 : Int32) (a2 : Int32) : Option (Int32 × St) :=
  if (tF_isLong a1) = 0 then
    some ((-1 : Int32), g)
  else
    if (tF_isPlace a2) = 0 then
      some ((-1 : Int32), g)
    else
      (tF_goesAll g a1).bind fun g3 =>
      if (g3 0 14) < 0 then
        some ((-3 : Int32), g3)
      else
        if (g3 0 15) ≤ a2 then
          some ((-3 : Int32), g3)
        else
          (rd (g3 11) 6 a2).bind fun x4 =>
          some (x4, g3)
set_option maxHeartbeats 4000000 in
theorem tC_cheaply {l : Launch} {D : va_G} {A : Nat → Prop} {o : Nat} {ad : Nat → Nat} {dI : ClassId} {g : St} {a1 : Int32} {a2 : Int32} {z : Int32 × St} (hf : tF_cheaply g a1 a2 = some z) : Ct l yX6_cheaply cX6_cheaply 3 (some .int) 19 481 D vwCl [(dI, .int)] A (tW o ad dI) [.ref o, .int a1, .int a2] g (QI D vwCl A (tW o ad dI) z.1 z.2) := by
  unfold tF_cheaply at hf
  refine ct_intro (own := RX6) (lv0 := [(0, .ref o), (1, .int a1), (2, .int a2)]) (by decide) rfl (Nat.le_of_ble_eq_true rfl) rfl ?_
  intro p e s m args below meth c X hr
  refine tw_iload_n X dX6_cheaply_0 rfl 1 rfl ?_
  refine tw_callSz (As := [.int a1]) (st := []) X (tC_isLong (g := g) a1) tG_isLong tI_isLong ⟨Nat.le_of_ble_eq_true rfl, Nat.le_of_ble_eq_true rfl⟩ ⟨Nat.zero_le _, Nat.zero_le _⟩ rfl rfl (Nat.le_of_ble_eq_true rfl) dX6_cheaply_1 ?_
  intro hb1
  refine tw_if_eq (tgt := 14) X dX6_cheaply_4 rfl hf (fun q8 hf => ?_) (fun q8 hf => ?_)
  · clear q8
    refine tw_iconst (v := -1) X dX6_cheaply_14 rfl ?_
    exact tw_iret X hr (prj1 hf) (prj2 hf) dX6_cheaply_15
  · clear q8
    refine tw_iload_n X dX6_cheaply_7 rfl 2 rfl ?_
    refine tw_callSz (As := [.int a2]) (st := []) X (tC_isPlace (g := g) a2) tG_isPlace tI_isPlace ⟨Nat.le_of_ble_eq_true rfl, Nat.le_of_ble_eq_true rfl⟩ ⟨Nat.zero_le _, Nat.zero_le _⟩ rfl rfl (Nat.le_of_ble_eq_true rfl) dX6_cheaply_8 ?_
    intro hb2
    refine tw_if_ne (tgt := 16) X dX6_cheaply_11 rfl hf (fun q7 hf => ?_) (fun q7 hf => ?_)
    · clear q7
      refine tw_iconst (v := -1) X dX6_cheaply_14 rfl ?_
      exact tw_iret X hr (prj1 hf) (prj2 hf) dX6_cheaply_15
    · clear q7
      refine tw_aload_n X dX6_cheaply_16 rfl 0 rfl ?_
      refine tw_iload_n X dX6_cheaply_17 rfl 1 rfl ?_
      obtain ⟨g3, hg3, hf⟩ := bnd hf
      refine tw_callVv (As := [.int a1]) (st := []) X (tC_goesAll hg3) tG_goesAll tI_goesAll ⟨Nat.le_of_ble_eq_true rfl, Nat.le_of_ble_eq_true rfl⟩ ⟨Nat.zero_le _, Nat.zero_le _⟩ 0 rfl rfl rfl rfl (Nat.le_of_ble_eq_true rfl) dX6_cheaply_18 ?_
      refine tw_aload_n X dX6_cheaply_21 rfl 0 rfl ?_
      refine tg_cheapCost X  dX6_cheaply_22 ?_
      refine tw_if_lt (tgt := 45) X dX6_cheaply_25 rfl hf (fun q6 hf => ?_) (fun q6 hf => ?_)
      · clear q6
        refine tw_bipush (v := -3) X dX6_cheaply_45 rfl ?_
        exact tw_iret X hr (prj1 hf) (prj2 hf) dX6_cheaply_47
      · clear q6
        refine tw_iload_n X dX6_cheaply_28 rfl 2 rfl ?_
        refine tw_aload_n X dX6_cheaply_29 rfl 0 rfl ?_
        refine tg_cheapLong X  dX6_cheaply_30 ?_
        refine tw_icmp_ge (tgt := 45) X dX6_cheaply_33 rfl hf (fun q5 hf => ?_) (fun q5 hf => ?_)
        · clear q5
          refine tw_bipush (v := -3) X dX6_cheaply_45 rfl ?_
          exact tw_iret X hr (prj1 hf) (prj2 hf) dX6_cheaply_47
        · clear q5
          refine tw_aload_n X dX6_cheaply_36 rfl 0 rfl ?_
          refine tg_cheap X  dX6_cheaply_37 ?_
          refine tw_iload_n X dX6_cheaply_40 rfl 2 rfl ?_
          obtain ⟨x4, hx4, hf⟩ := bnd hf
          refine ta_cheap X hx4 dX6_cheaply_41 ?_
          refine tw_goto (tgt := 47) X dX6_cheaply_42 rfl ?_
          exact tw_iret X hr (prj1 hf) (prj2 hf) dX6_cheaply_47
noncomputable def tF_bars (g : St) : Option (Int32 × St) :=
  (tF_goesAll g (6 : Int32)).bind fun g1 =>
  iter (L := St × Int32 × Int32) (T := Int32 × St) (un3 fun s2a s2b s2c => 
    (rd (s2a 1) 340 (0 : Int32)).bind fun x4 =>
    if x4 ≤ s2c then
      some (.inr (s2b, s2a))
    else
      if (s2a 0 11) = 0 then
        (pf s2a 0 4 s2c).bind fun g6 =>
        (tF_goesAll g6 (6 : Int32)).bind fun g7 =>
        Option.bind (α := Int32) (β := ((St × Int32 × Int32) ⊕ (Int32 × St)))
          (if (g7 0 11) ≤ 0 then
            some (0 : Int32)
          else
            some ((1 : Int32) <<< (s2c &&& 31)))
          (fun j8 => (pf g7 0 4 (-1 : Int32)).bind fun g10 =>
          (pf g10 0 11 (0 : Int32)).bind fun g11 =>
          some (.inl (g11, (s2b ||| j8), (s2c + (1 : Int32)))))
      else
        some (.inr (s2b, s2a))) (g1, (0 : Int32), (0 : Int32))
set_option maxHeartbeats 4000000 in
theorem tC_bars {l : Launch} {D : va_G} {A : Nat → Prop} {o : Nat} {ad : Nat → Nat} {dI : ClassId} {g : St} {z : Int32 × St} (hf : tF_bars g = some z) : Ct l yX6_bars cX6_bars 3 (some .int) 19 481 D vwCl [(dI, .int)] A (tW o ad dI) [.ref o] g (QI D vwCl A (tW o ad dI) z.1 z.2) := by
  unfold tF_bars at hf
  refine ct_intro (own := RX6) (lv0 := [(0, .ref o)]) (by decide) rfl (Nat.le_of_ble_eq_true rfl) rfl ?_
  intro p e s m args below meth c X hr
  refine tw_aload_n X dX6_bars_0 rfl 0 rfl ?_
  refine tw_bipush (v := 6) X dX6_bars_1 rfl ?_
  obtain ⟨g1, hg1, hf⟩ := bnd hf
  refine tw_callVv (As := [.int (6 : Int32)]) (st := []) X (tC_goesAll hg1) tG_goesAll tI_goesAll ⟨Nat.le_of_ble_eq_true rfl, Nat.le_of_ble_eq_true rfl⟩ ⟨Nat.zero_le _, Nat.zero_le _⟩ 0 rfl rfl rfl rfl (Nat.le_of_ble_eq_true rfl) dX6_bars_3 ?_
  refine tw_iconst (v := 0) X dX6_bars_6 rfl ?_
  refine tw_istore_n (lv' := [(1, .int (0 : Int32)), (0, .ref o)]) X dX6_bars_7 rfl (by decide) rfl ?_
  refine tw_iconst (v := 0) X dX6_bars_8 rfl ?_
  refine tw_istore_n (lv' := [(2, .int (0 : Int32)), (1, .int (0 : Int32)), (0, .ref o)]) X dX6_bars_9 rfl (by decide) rfl ?_
  refine tw_sub [2, 1, 0] (lv' := [(0, .ref o), (1, .int (0 : Int32)), (2, .int (0 : Int32))]) rfl ?_
  refine it_walk (P := un3 fun s2a s2b s2c => TW p l e (rom 19 481) s m args below meth c (MQ below (QI D vwCl A (tW o ad dI) z.1 z.2) args s 0 0 A) D vwCl A (tW o ad dI) 3 0 0 s2a 10 [(0, .ref o), (1, .int s2b), (2, .int s2c)] []) hf ?_
  rintro ⟨s2a, s2b, s2c⟩ zz17 hf hl3
  dsimp only [un3] at hf ⊢
  refine tw_iload_n X dX6_bars_10 rfl 2 rfl ?_
  refine tw_aload_n X dX6_bars_11 rfl 0 rfl ?_
  refine tg_s X  dX6_bars_12 ?_
  refine tw_iconst (v := 0) X dX6_bars_15 rfl ?_
  obtain ⟨x4, hx4, hf⟩ := bnd hf
  refine ta_s X hx4 dX6_bars_16 ?_
  refine tw_icmp_ge (tgt := 71) X dX6_bars_17 rfl hf (fun q16 hf => ?_) (fun q16 hf => ?_)
  · clear q16
    refine tw_iload_n X dX6_bars_71 rfl 1 rfl ?_
    have hf5 := leafR hf hl3
    exact tw_iret X hr (prj1 hf5) (prj2 hf5) dX6_bars_72
  · clear q16
    refine tw_aload_n X dX6_bars_20 rfl 0 rfl ?_
    refine tg_doneMany X  dX6_bars_21 ?_
    refine tw_if_ne (tgt := 71) X dX6_bars_24 rfl hf (fun q15 hf => ?_) (fun q15 hf => ?_)
    · clear q15
      refine tw_aload_n X dX6_bars_27 rfl 0 rfl ?_
      refine tw_iload_n X dX6_bars_28 rfl 2 rfl ?_
      obtain ⟨g6, hg6, hf⟩ := bnd hf
      refine tp_absent X hg6 dX6_bars_29 ?_
      refine tw_aload_n X dX6_bars_32 rfl 0 rfl ?_
      refine tw_bipush (v := 6) X dX6_bars_33 rfl ?_
      obtain ⟨g7, hg7, hf⟩ := bnd hf
      refine tw_callVv (As := [.int (6 : Int32)]) (st := []) X (tC_goesAll hg7) tG_goesAll tI_goesAll ⟨Nat.le_of_ble_eq_true rfl, Nat.le_of_ble_eq_true rfl⟩ ⟨Nat.zero_le _, Nat.zero_le _⟩ 0 rfl rfl rfl rfl (Nat.le_of_ble_eq_true rfl) dX6_bars_35 ?_
      refine tw_iload_n X dX6_bars_38 rfl 1 rfl ?_
      refine tw_aload_n X dX6_bars_39 rfl 0 rfl ?_
      refine tg_doneMany X  dX6_bars_40 ?_
      refine bj_walk (P := fun j8 : Int32 => TW p l e (rom 19 481) s m args below meth c (MQ below (QI D vwCl A (tW o ad dI) z.1 z.2) args s 0 0 A) D vwCl A (tW o ad dI) 3 0 0 g7 53 [(0, .ref o), (2, .int s2c)] [.int j8, .int s2b]) hf ?_ ?_
      · intro j8 hf
        refine tw_ior X dX6_bars_53 ?_
        refine tw_istore_n (lv' := [(1, .int (s2b ||| j8)), (0, .ref o), (2, .int s2c)]) X dX6_bars_54 rfl (by decide) rfl ?_
        refine tw_aload_n X dX6_bars_55 rfl 1 rfl ?_
        refine tw_iconst (v := -1) X dX6_bars_56 rfl ?_
        obtain ⟨g10, hg10, hf⟩ := bnd hf
        refine tp_absent X hg10 dX6_bars_57 ?_
        refine tw_aload_n X dX6_bars_60 rfl 1 rfl ?_
        refine tw_iconst (v := 0) X dX6_bars_61 rfl ?_
        obtain ⟨g11, hg11, hf⟩ := bnd hf
        refine tp_doneMany X hg11 dX6_bars_62 ?_
        refine tw_iinc (q := 2) (v := (s2c + (1 : Int32))) (lv' := [(2, .int (s2c + (1 : Int32))), (1, .int (s2b ||| j8)), (0, .ref o)]) X dX6_bars_65 rfl rfl (by decide) rfl ?_
        refine tw_goto (tgt := 10) X dX6_bars_68 rfl ?_
        refine tw_sub [2, 1, 0] (lv' := [(0, .ref o), (1, .int (s2b ||| j8)), (2, .int (s2c + (1 : Int32)))]) rfl ?_
        have hL := leafL hf hl3
        exact hL
      · intro zz13 hf hk9
        refine tw_if_le (tgt := 52) X dX6_bars_43 rfl hf (fun q12 hf => ?_) (fun q12 hf => ?_)
        · clear q12
          refine tw_iconst (v := 0) X dX6_bars_52 rfl ?_
          refine tw_sub [0, 2] (lv' := [(0, .ref o), (2, .int s2c)]) rfl ?_
          have hL := hk9 _ hf
          exact hL
        · clear q12
          refine tw_iconst (v := 1) X dX6_bars_46 rfl ?_
          refine tw_iload_n X dX6_bars_47 rfl 2 rfl ?_
          refine tw_ishl X dX6_bars_48 ?_
          refine tw_goto (tgt := 53) X dX6_bars_49 rfl ?_
          refine tw_sub [0, 2] (lv' := [(0, .ref o), (2, .int s2c)]) rfl ?_
          have hL := hk9 _ hf
          exact hL
    · clear q15
      refine tw_iload_n X dX6_bars_71 rfl 1 rfl ?_
      have hf14 := leafR hf hl3
      exact tw_iret X hr (prj1 hf14) (prj2 hf14) dX6_bars_72
noncomputable def tF_jars (g : St) : Option (Int32 × St) :=
  (tF_goesAll g (6 : Int32)).bind fun g1 =>
  iter (L := St × Int32 × Int32 × Int32) (T := Int32 × St) (un4 fun s2a s2b s2c s2d => 
    if (8 : Int32) ≤ s2d then
      some (.inr (s2c, s2a))
    else
      (rd (s2a 1) 340 ((14 : Int32) + s2d)).bind fun x5 =>
      (wr s2a 1 340 ((14 : Int32) + s2d) (x5 + (1 : Int32))).bind fun g6 =>
      (tF_goesAll g6 (6 : Int32)).bind fun g7 =>
      (rd (g7 1) 340 ((14 : Int32) + s2d)).bind fun x8 =>
      (wr g7 1 340 ((14 : Int32) + s2d) (x8 - (1 : Int32))).bind fun g9 =>
      Option.bind (α := Int32) (β := ((St × Int32 × Int32 × Int32) ⊕ (Int32 × St)))
        (if (g9 0 12) ≤ s2b then
          some s2c
        else
          some s2d)
        (fun j10 => if (g9 0 12) ≤ s2b then
          some (.inl (g9, s2b, j10, (s2d + (1 : Int32))))
        else
          some (.inl (g9, (g9 0 12), j10, (s2d + (1 : Int32)))))) (g1, (g1 0 12), (-3 : Int32), (0 : Int32))
set_option maxHeartbeats 4000000 in
theorem tC_jars {l : Launch} {D : va_G} {A : Nat → Prop} {o : Nat} {ad : Nat → Nat} {dI : ClassId} {g : St} {z : Int32 × St} (hf : tF_jars g = some z) : Ct l yX6_jars cX6_jars 4 (some .int) 19 481 D vwCl [(dI, .int)] A (tW o ad dI) [.ref o] g (QI D vwCl A (tW o ad dI) z.1 z.2) := by
  unfold tF_jars at hf
  refine ct_intro (own := RX6) (lv0 := [(0, .ref o)]) (by decide) rfl (Nat.le_of_ble_eq_true rfl) rfl ?_
  intro p e s m args below meth c X hr
  refine tw_aload_n X dX6_jars_0 rfl 0 rfl ?_
  refine tw_bipush (v := 6) X dX6_jars_1 rfl ?_
  obtain ⟨g1, hg1, hf⟩ := bnd hf
  refine tw_callVv (As := [.int (6 : Int32)]) (st := []) X (tC_goesAll hg1) tG_goesAll tI_goesAll ⟨Nat.le_of_ble_eq_true rfl, Nat.le_of_ble_eq_true rfl⟩ ⟨Nat.zero_le _, Nat.zero_le _⟩ 0 rfl rfl rfl rfl (Nat.le_of_ble_eq_true rfl) dX6_jars_3 ?_
  refine tw_aload_n X dX6_jars_6 rfl 0 rfl ?_
  refine tg_mostWhole X  dX6_jars_7 ?_
  refine tw_istore_n (lv' := [(1, .int (g1 0 12)), (0, .ref o)]) X dX6_jars_10 rfl (by decide) rfl ?_
  refine tw_bipush (v := -3) X dX6_jars_11 rfl ?_
  refine tw_istore_n (lv' := [(2, .int (-3 : Int32)), (1, .int (g1 0 12)), (0, .ref o)]) X dX6_jars_13 rfl (by decide) rfl ?_
  refine tw_iconst (v := 0) X dX6_jars_14 rfl ?_
  refine tw_istore_n (lv' := [(3, .int (0 : Int32)), (2, .int (-3 : Int32)), (1, .int (g1 0 12)), (0, .ref o)]) X dX6_jars_15 rfl (by decide) rfl ?_
  refine tw_sub [3, 2, 1, 0] (lv' := [(0, .ref o), (1, .int (g1 0 12)), (2, .int (-3 : Int32)), (3, .int (0 : Int32))]) rfl ?_
  refine it_walk (P := un4 fun s2a s2b s2c s2d => TW p l e (rom 19 481) s m args below meth c (MQ below (QI D vwCl A (tW o ad dI) z.1 z.2) args s 0 0 A) D vwCl A (tW o ad dI) 4 0 0 s2a 16 [(0, .ref o), (1, .int s2b), (2, .int s2c), (3, .int s2d)] []) hf ?_
  rintro ⟨s2a, s2b, s2c, s2d⟩ zz16 hf hl3
  dsimp only [un4] at hf ⊢
  refine tw_iload_n X dX6_jars_16 rfl 3 rfl ?_
  refine tw_bipush (v := 8) X dX6_jars_17 rfl ?_
  refine tw_icmp_ge (tgt := 91) X dX6_jars_19 rfl hf (fun q15 hf => ?_) (fun q15 hf => ?_)
  · clear q15
    refine tw_iload_n X dX6_jars_91 rfl 2 rfl ?_
    have hf4 := leafR hf hl3
    exact tw_iret X hr (prj1 hf4) (prj2 hf4) dX6_jars_92
  · clear q15
    refine tw_aload_n X dX6_jars_22 rfl 0 rfl ?_
    refine tg_s X  dX6_jars_23 ?_
    refine tw_bipush (v := 14) X dX6_jars_26 rfl ?_
    refine tw_iload_n X dX6_jars_28 rfl 3 rfl ?_
    refine tw_iadd X dX6_jars_29 ?_
    refine tw_dup2_11 X dX6_jars_30 rfl rfl ?_
    obtain ⟨x5, hx5, hf⟩ := bnd hf
    refine ta_s X hx5 dX6_jars_31 ?_
    refine tw_iconst (v := 1) X dX6_jars_32 rfl ?_
    refine tw_iadd X dX6_jars_33 ?_
    obtain ⟨g6, hg6, hf⟩ := bnd hf
    refine ts_s X hg6 dX6_jars_34 ?_
    refine tw_aload_n X dX6_jars_35 rfl 0 rfl ?_
    refine tw_bipush (v := 6) X dX6_jars_36 rfl ?_
    obtain ⟨g7, hg7, hf⟩ := bnd hf
    refine tw_callVv (As := [.int (6 : Int32)]) (st := []) X (tC_goesAll hg7) tG_goesAll tI_goesAll ⟨Nat.le_of_ble_eq_true rfl, Nat.le_of_ble_eq_true rfl⟩ ⟨Nat.zero_le _, Nat.zero_le _⟩ 0 rfl rfl rfl rfl (Nat.le_of_ble_eq_true rfl) dX6_jars_38 ?_
    refine tw_aload_n X dX6_jars_41 rfl 0 rfl ?_
    refine tg_s X  dX6_jars_42 ?_
    refine tw_bipush (v := 14) X dX6_jars_45 rfl ?_
    refine tw_iload_n X dX6_jars_47 rfl 3 rfl ?_
    refine tw_iadd X dX6_jars_48 ?_
    refine tw_dup2_11 X dX6_jars_49 rfl rfl ?_
    obtain ⟨x8, hx8, hf⟩ := bnd hf
    refine ta_s X hx8 dX6_jars_50 ?_
    refine tw_iconst (v := 1) X dX6_jars_51 rfl ?_
    refine tw_isub X dX6_jars_52 ?_
    obtain ⟨g9, hg9, hf⟩ := bnd hf
    refine ts_s X hg9 dX6_jars_53 ?_
    refine tw_aload_n X dX6_jars_54 rfl 0 rfl ?_
    refine tg_mostWhole X  dX6_jars_55 ?_
    refine tw_iload_n X dX6_jars_58 rfl 1 rfl ?_
    refine bj_walk (P := fun j10 : Int32 => TW p l e (rom 19 481) s m args below meth c (MQ below (QI D vwCl A (tW o ad dI) z.1 z.2) args s 0 0 A) D vwCl A (tW o ad dI) 4 0 0 g9 67 [(0, .ref o), (1, .int s2b), (3, .int s2d)] [.int j10]) hf ?_ ?_
    · intro j10 hf
      refine tw_istore_n (lv' := [(2, .int j10), (0, .ref o), (1, .int s2b), (3, .int s2d)]) X dX6_jars_67 rfl (by decide) rfl ?_
      refine tw_aload_n X dX6_jars_68 rfl 1 rfl ?_
      refine tg_mostWhole X  dX6_jars_69 ?_
      refine tw_iload_n X dX6_jars_72 rfl 2 rfl ?_
      refine tw_icmp_le (tgt := 83) X dX6_jars_73 rfl hf (fun q12 hf => ?_) (fun q12 hf => ?_)
      · clear q12
        refine tw_iload_n X dX6_jars_83 rfl 2 rfl ?_
        refine tw_istore_n (lv' := [(1, .int s2b), (2, .int j10), (0, .ref o), (3, .int s2d)]) X dX6_jars_84 rfl (by decide) rfl ?_
        refine tw_iinc (q := 3) (v := (s2d + (1 : Int32))) (lv' := [(3, .int (s2d + (1 : Int32))), (1, .int s2b), (2, .int j10), (0, .ref o)]) X dX6_jars_85 rfl rfl (by decide) rfl ?_
        refine tw_goto (tgt := 16) X dX6_jars_88 rfl ?_
        refine tw_sub [3, 1, 2, 0] (lv' := [(0, .ref o), (1, .int s2b), (2, .int j10), (3, .int (s2d + (1 : Int32)))]) rfl ?_
        have hL := leafL hf hl3
        exact hL
      · clear q12
        refine tw_aload_n X dX6_jars_76 rfl 1 rfl ?_
        refine tg_mostWhole X  dX6_jars_77 ?_
        refine tw_goto (tgt := 84) X dX6_jars_80 rfl ?_
        refine tw_istore_n (lv' := [(1, .int (g9 0 12)), (2, .int j10), (0, .ref o), (3, .int s2d)]) X dX6_jars_84 rfl (by decide) rfl ?_
        refine tw_iinc (q := 3) (v := (s2d + (1 : Int32))) (lv' := [(3, .int (s2d + (1 : Int32))), (1, .int (g9 0 12)), (2, .int j10), (0, .ref o)]) X dX6_jars_85 rfl rfl (by decide) rfl ?_
        refine tw_goto (tgt := 16) X dX6_jars_88 rfl ?_
        refine tw_sub [3, 1, 2, 0] (lv' := [(0, .ref o), (1, .int (g9 0 12)), (2, .int j10), (3, .int (s2d + (1 : Int32)))]) rfl ?_
        have hL := leafL hf hl3
        exact hL
    · intro zz14 hf hk11
      refine tw_icmp_le (tgt := 66) X dX6_jars_59 rfl hf (fun q13 hf => ?_) (fun q13 hf => ?_)
      · clear q13
        refine tw_iload_n X dX6_jars_66 rfl 2 rfl ?_
        refine tw_sub [0, 1, 3] (lv' := [(0, .ref o), (1, .int s2b), (3, .int s2d)]) rfl ?_
        have hL := hk11 _ hf
        exact hL
      · clear q13
        refine tw_iload_n X dX6_jars_62 rfl 3 rfl ?_
        refine tw_goto (tgt := 67) X dX6_jars_63 rfl ?_
        refine tw_sub [0, 1, 3] (lv' := [(0, .ref o), (1, .int s2b), (3, .int s2d)]) rfl ?_
        have hL := hk11 _ hf
        exact hL
noncomputable def tF_feeFor (g : St) (a1 : Int32) : Option (Int32 × St) :=
  if (tF_in (a1).toInt64 (1 : Int64) (6 : Int64)) = 0 then
    some ((-1 : Int32), g)
  else
    (rd (g 1) 340 (2 : Int32)).bind fun x2 =>
    Option.bind (α := St × Int32) (β := Int32 × St)
      (iter (L := St × Int32 × Int32) (T := St × Int32) (un3 fun s6a s6b s6c => 
        if s6c < 0 then
          some (.inr (s6a, s6b))
        else
          if 0 ≤ s6b then
            some (.inr (s6a, s6b))
          else
            (wr s6a 1 340 (2 : Int32) s6c).bind fun g10 =>
            (tF_goesAll g10 a1).bind fun g11 =>
            if (g11 0 11) ≤ 0 then
              some (.inl (g11, (-3 : Int32), (s6c + (-1 : Int32))))
            else
              some (.inl (g11, s6c, (s6c + (-1 : Int32))))) (g, (-3 : Int32), (50 : Int32)))
      (un2 fun j3a j3b => (wr j3a 1 340 (2 : Int32) x2).bind fun g5 =>
      some (j3b, g5))
set_option maxHeartbeats 4000000 in
theorem tC_feeFor {l : Launch} {D : va_G} {A : Nat → Prop} {o : Nat} {ad : Nat → Nat} {dI : ClassId} {g : St} {a1 : Int32} {z : Int32 × St} (hf : tF_feeFor g a1 = some z) : Ct l yX6_feeFor cX6_feeFor 5 (some .int) 19 481 D vwCl [(dI, .int)] A (tW o ad dI) [.ref o, .int a1] g (QI D vwCl A (tW o ad dI) z.1 z.2) := by
  unfold tF_feeFor at hf
  refine ct_intro (own := RX6) (lv0 := [(0, .ref o), (1, .int a1)]) (by decide) rfl (Nat.le_of_ble_eq_true rfl) rfl ?_
  intro p e s m args below meth c X hr
  refine tw_iload_n X dX6_feeFor_0 rfl 1 rfl ?_
  refine tw_i2l X dX6_feeFor_1 ?_
  refine tw_lconst (v := 1) X dX6_feeFor_2 rfl ?_
  refine tw_ldc2 (v := 6) X q1677 dX6_feeFor_3 ?_
  refine tw_callSz (As := [.long (a1).toInt64, .long (1 : Int64), .long (6 : Int64)]) (st := []) X (tC_in (g := g) (a1).toInt64 (1 : Int64) (6 : Int64)) tG_in tI_in ⟨Nat.le_of_ble_eq_true rfl, Nat.le_of_ble_eq_true rfl⟩ ⟨Nat.zero_le _, Nat.zero_le _⟩ rfl rfl (Nat.le_of_ble_eq_true rfl) dX6_feeFor_6 ?_
  intro hb1
  refine tw_if_ne (tgt := 14) X dX6_feeFor_9 rfl hf (fun q17 hf => ?_) (fun q17 hf => ?_)
  · clear q17
    refine tw_iconst (v := -1) X dX6_feeFor_12 rfl ?_
    exact tw_iret X hr (prj1 hf) (prj2 hf) dX6_feeFor_13
  · clear q17
    refine tw_aload_n X dX6_feeFor_14 rfl 0 rfl ?_
    refine tg_s X  dX6_feeFor_15 ?_
    refine tw_iconst (v := 2) X dX6_feeFor_18 rfl ?_
    obtain ⟨x2, hx2, hf⟩ := bnd hf
    refine ta_s X hx2 dX6_feeFor_19 ?_
    refine tw_istore_n (lv' := [(2, .int x2), (0, .ref o), (1, .int a1)]) X dX6_feeFor_20 rfl (by decide) rfl ?_
    refine tw_bipush (v := -3) X dX6_feeFor_21 rfl ?_
    refine tw_istore_n (lv' := [(3, .int (-3 : Int32)), (2, .int x2), (0, .ref o), (1, .int a1)]) X dX6_feeFor_23 rfl (by decide) rfl ?_
    refine tw_bipush (v := 50) X dX6_feeFor_24 rfl ?_
    refine tw_istore (lv' := [(4, .int (50 : Int32)), (3, .int (-3 : Int32)), (2, .int x2), (0, .ref o), (1, .int a1)]) X dX6_feeFor_26 (by decide) rfl ?_
    refine bj_walk (P := un2 fun j3a j3b => TW p l e (rom 19 481) s m args below meth c (MQ below (QI D vwCl A (tW o ad dI) z.1 z.2) args s 0 0 A) D vwCl A (tW o ad dI) 5 0 0 j3a 71 [(0, .ref o), (2, .int x2), (3, .int j3b)] []) hf ?_ ?_
    · rintro ⟨j3a, j3b⟩ hf
      dsimp only [un2] at hf ⊢
      refine tw_aload_n X dX6_feeFor_71 rfl 0 rfl ?_
      refine tg_s X  dX6_feeFor_72 ?_
      refine tw_iconst (v := 2) X dX6_feeFor_75 rfl ?_
      refine tw_iload_n X dX6_feeFor_76 rfl 1 rfl ?_
      obtain ⟨g5, hg5, hf⟩ := bnd hf
      refine ts_s X hg5 dX6_feeFor_77 ?_
      refine tw_iload_n X dX6_feeFor_78 rfl 2 rfl ?_
      exact tw_iret X hr (prj1 hf) (prj2 hf) dX6_feeFor_79
    · intro zz16 hf hk4
      refine tw_sub [3, 4, 2, 1, 0] (lv' := [(0, .ref o), (1, .int a1), (2, .int x2), (3, .int (-3 : Int32)), (4, .int (50 : Int32))]) rfl ?_
      refine it_walk (P := un3 fun s6a s6b s6c => TW p l e (rom 19 481) s m args below meth c (MQ below (QI D vwCl A (tW o ad dI) z.1 z.2) args s 0 0 A) D vwCl A (tW o ad dI) 5 0 0 s6a 28 [(0, .ref o), (1, .int a1), (2, .int x2), (3, .int s6b), (4, .int s6c)] []) hf ?_
      rintro ⟨s6a, s6b, s6c⟩ zz15 hf hl7
      dsimp only [un3] at hf ⊢
      refine tw_iload X dX6_feeFor_28 4 rfl ?_
      refine tw_if_lt (tgt := 71) X dX6_feeFor_30 rfl hf (fun q14 hf => ?_) (fun q14 hf => ?_)
      · clear q14
        have hf8 := leafR hf hl7
        refine tw_sub [0, 2, 3] (lv' := [(0, .ref o), (2, .int x2), (3, .int s6b)]) rfl ?_
        have hL := hk4 _ hf8
        exact hL
      · clear q14
        refine tw_iload_n X dX6_feeFor_33 rfl 3 rfl ?_
        refine tw_if_ge (tgt := 71) X dX6_feeFor_34 rfl hf (fun q13 hf => ?_) (fun q13 hf => ?_)
        · clear q13
          have hf9 := leafR hf hl7
          refine tw_sub [0, 2, 3] (lv' := [(0, .ref o), (2, .int x2), (3, .int s6b)]) rfl ?_
          have hL := hk4 _ hf9
          exact hL
        · clear q13
          refine tw_aload_n X dX6_feeFor_37 rfl 0 rfl ?_
          refine tg_s X  dX6_feeFor_38 ?_
          refine tw_iconst (v := 2) X dX6_feeFor_41 rfl ?_
          refine tw_iload X dX6_feeFor_42 4 rfl ?_
          obtain ⟨g10, hg10, hf⟩ := bnd hf
          refine ts_s X hg10 dX6_feeFor_44 ?_
          refine tw_aload_n X dX6_feeFor_45 rfl 0 rfl ?_
          refine tw_iload_n X dX6_feeFor_46 rfl 1 rfl ?_
          obtain ⟨g11, hg11, hf⟩ := bnd hf
          refine tw_callVv (As := [.int a1]) (st := []) X (tC_goesAll hg11) tG_goesAll tI_goesAll ⟨Nat.le_of_ble_eq_true rfl, Nat.le_of_ble_eq_true rfl⟩ ⟨Nat.zero_le _, Nat.zero_le _⟩ 0 rfl rfl rfl rfl (Nat.le_of_ble_eq_true rfl) dX6_feeFor_47 ?_
          refine tw_aload_n X dX6_feeFor_50 rfl 0 rfl ?_
          refine tg_doneMany X  dX6_feeFor_51 ?_
          refine tw_if_le (tgt := 62) X dX6_feeFor_54 rfl hf (fun q12 hf => ?_) (fun q12 hf => ?_)
          · clear q12
            refine tw_bipush (v := -3) X dX6_feeFor_62 rfl ?_
            refine tw_istore_n (lv' := [(3, .int (-3 : Int32)), (0, .ref o), (1, .int a1), (2, .int x2), (4, .int s6c)]) X dX6_feeFor_64 rfl (by decide) rfl ?_
            refine tw_iinc (q := 4) (v := (s6c + (-1 : Int32))) (lv' := [(4, .int (s6c + (-1 : Int32))), (3, .int (-3 : Int32)), (0, .ref o), (1, .int a1), (2, .int x2)]) X dX6_feeFor_65 rfl rfl (by decide) rfl ?_
            refine tw_goto (tgt := 28) X dX6_feeFor_68 rfl ?_
            refine tw_sub [2, 3, 4, 1, 0] (lv' := [(0, .ref o), (1, .int a1), (2, .int x2), (3, .int (-3 : Int32)), (4, .int (s6c + (-1 : Int32)))]) rfl ?_
            have hL := leafL hf hl7
            exact hL
          · clear q12
            refine tw_iload X dX6_feeFor_57 4 rfl ?_
            refine tw_goto (tgt := 64) X dX6_feeFor_59 rfl ?_
            refine tw_istore_n (lv' := [(3, .int s6c), (0, .ref o), (1, .int a1), (2, .int x2), (4, .int s6c)]) X dX6_feeFor_64 rfl (by decide) rfl ?_
            refine tw_iinc (q := 4) (v := (s6c + (-1 : Int32))) (lv' := [(4, .int (s6c + (-1 : Int32))), (3, .int s6c), (0, .ref o), (1, .int a1), (2, .int x2)]) X dX6_feeFor_65 rfl rfl (by decide) rfl ?_
            refine tw_goto (tgt := 28) X dX6_feeFor_68 rfl ?_
            refine tw_sub [2, 3, 4, 1, 0] (lv' := [(0, .ref o), (1, .int a1), (2, .int x2), (3, .int s6c), (4, .int (s6c + (-1 : Int32)))]) rfl ?_
            have hL := leafL hf hl7
            exact hL
noncomputable def tF_game (g : St) (a1 : Int32) : Option (Int32 × St) :=
  if (tF_isGame a1) = 0 then
    some ((-1 : Int32), g)
  else
    (tF_valueOf 8 g a1).bind (un2 fun y2a y2b =>
    some (y2a, y2b))
set_option maxHeartbeats 4000000 in
theorem tC_game {l : Launch} {D : va_G} {A : Nat → Prop} {o : Nat} {ad : Nat → Nat} {dI : ClassId} {g : St} {a1 : Int32} {z : Int32 × St} (hf : tF_game g a1 = some z) : Ct l yX6_game cX6_game 2 (some .int) 82 1912 D vwCl [(dI, .int)] A (tW o ad dI) [.ref o, .int a1] g (QI D vwCl A (tW o ad dI) z.1 z.2) := by
  unfold tF_game at hf
  refine ct_intro (own := RX6) (lv0 := [(0, .ref o), (1, .int a1)]) (by decide) rfl (Nat.le_of_ble_eq_true rfl) rfl ?_
  intro p e s m args below meth c X hr
  refine tw_iload_n X dX6_game_0 rfl 1 rfl ?_
  refine tw_callSz (As := [.int a1]) (st := []) X (tC_isGame (g := g) a1) tG_isGame tI_isGame ⟨Nat.le_of_ble_eq_true rfl, Nat.le_of_ble_eq_true rfl⟩ ⟨Nat.zero_le _, Nat.zero_le _⟩ rfl rfl (Nat.le_of_ble_eq_true rfl) dX6_game_1 ?_
  intro hb1
  refine tw_if_eq (tgt := 15) X dX6_game_4 rfl hf (fun q3 hf => ?_) (fun q3 hf => ?_)
  · clear q3
    refine tw_iconst (v := -1) X dX6_game_15 rfl ?_
    exact tw_iret X hr (prj1 hf) (prj2 hf) dX6_game_16
  · clear q3
    refine tw_aload_n X dX6_game_7 rfl 0 rfl ?_
    refine tw_iload_n X dX6_game_8 rfl 1 rfl ?_
    obtain ⟨⟨y2a, y2b⟩, hy2, hf⟩ := bnd hf
    dsimp only [un2] at hf
    refine tw_callVi (As := [.int a1]) (st := []) X (tC_valueOf 8 _ _ _ hy2) tG_valueOf tI_valueOf ⟨Nat.le_of_ble_eq_true rfl, Nat.le_of_ble_eq_true rfl⟩ ⟨Nat.zero_le _, Nat.zero_le _⟩ 0 rfl rfl rfl rfl (Nat.le_of_ble_eq_true rfl) dX6_game_9 ?_
    refine tw_goto (tgt := 16) X dX6_game_12 rfl ?_
    exact tw_iret X hr (prj1 hf) (prj2 hf) dX6_game_16
noncomputable def tF_draw (g : St) : Option (Int32 × St) :=
  (tF_drawn g).bind (un2 fun y1a y1b =>
  if 0 ≤ y1a then
    (tF_makes y1b y1a).bind fun g2 =>
    some (y1a, g2)
  else
    some ((-3 : Int32), y1b))
set_option maxHeartbeats 4000000 in
theorem tC_draw {l : Launch} {D : va_G} {A : Nat → Prop} {o : Nat} {ad : Nat → Nat} {dI : ClassId} {g : St} {z : Int32 × St} (hf : tF_draw g = some z) : Ct l yX6_draw cX6_draw 2 (some .int) 10 231 D vwCl [(dI, .int)] A (tW o ad dI) [.ref o] g (QI D vwCl A (tW o ad dI) z.1 z.2) := by
  unfold tF_draw at hf
  refine ct_intro (own := RX6) (lv0 := [(0, .ref o)]) (by decide) rfl (Nat.le_of_ble_eq_true rfl) rfl ?_
  intro p e s m args below meth c X hr
  refine tw_aload_n X dX6_draw_0 rfl 0 rfl ?_
  obtain ⟨⟨y1a, y1b⟩, hy1, hf⟩ := bnd hf
  dsimp only [un2] at hf
  refine tw_callVi (As := []) (st := []) X (tC_drawn hy1) tG_drawn tI_drawn ⟨Nat.le_of_ble_eq_true rfl, Nat.le_of_ble_eq_true rfl⟩ ⟨Nat.zero_le _, Nat.zero_le _⟩ 0 rfl rfl rfl rfl (Nat.le_of_ble_eq_true rfl) dX6_draw_1 ?_
  refine tw_istore_n (lv' := [(1, .int y1a), (0, .ref o)]) X dX6_draw_4 rfl (by decide) rfl ?_
  refine tw_iload_n X dX6_draw_5 rfl 0 rfl ?_
  refine tw_if_ge (tgt := 12) X dX6_draw_6 rfl hf (fun q3 hf => ?_) (fun q3 hf => ?_)
  · clear q3
    refine tw_aload_n X dX6_draw_12 rfl 1 rfl ?_
    refine tw_iload_n X dX6_draw_13 rfl 0 rfl ?_
    obtain ⟨g2, hg2, hf⟩ := bnd hf
    refine tw_callVv (As := [.int y1a]) (st := []) X (tC_makes hg2) tG_makes tI_makes ⟨Nat.le_of_ble_eq_true rfl, Nat.le_of_ble_eq_true rfl⟩ ⟨Nat.zero_le _, Nat.zero_le _⟩ 0 rfl rfl rfl rfl (Nat.le_of_ble_eq_true rfl) dX6_draw_14 ?_
    refine tw_iload_n X dX6_draw_17 rfl 0 rfl ?_
    exact tw_iret X hr (prj1 hf) (prj2 hf) dX6_draw_18
  · clear q3
    refine tw_bipush (v := -3) X dX6_draw_9 rfl ?_
    exact tw_iret X hr (prj1 hf) (prj2 hf) dX6_draw_11
noncomputable def tF_prove (g : St) : Option (Int32 × St) :=
  (tF_goesAll g (6 : Int32)).bind fun g1 =>
  if 0 ≤ (g1 0 13) then
    (tF_puts g1).bind fun g2 =>
    (pf g2 0 24 (g2 0 13)).bind fun g3 =>
    Option.bind (α := St) (β := Int32 × St)
      (iter (L := St × Int32) (T := St) (un2 fun s7a s7b => 
        if (s7a 0 24) ≤ s7b then
          some (.inr s7a)
        else
          (rd (s7a 10) 6 s7b).bind fun x10 =>
          (tF_does s7a x10).bind fun g11 =>
          (rd (g11 10) 6 s7b).bind fun x12 =>
          (wr g11 24 18 ((3 : Int32) * s7b) x12).bind fun g13 =>
          (tF_coinsAll g13).bind fun x14 =>
          (wr g13 24 18 (((3 : Int32) * s7b) + (1 : Int32)) x14).bind fun g15 =>
          (tF_wholeSet g15).bind fun x16 =>
          (wr g15 24 18 (((3 : Int32) * s7b) + (2 : Int32)) x16).bind fun g17 =>
          some (.inl (g17, (s7b + (1 : Int32))))) (g3, (0 : Int32)))
      (fun j4 => (tF_putsBack j4).bind fun g6 =>
      some ((g6 0 24), g6))
  else
    some ((-3 : Int32), g1)
set_option maxHeartbeats 4000000 in
theorem tC_prove {l : Launch} {D : va_G} {A : Nat → Prop} {o : Nat} {ad : Nat → Nat} {dI : ClassId} {g : St} {z : Int32 × St} (hf : tF_prove g = some z) : Ct l yX6_prove cX6_prove 2 (some .int) 19 481 D vwCl [(dI, .int)] A (tW o ad dI) [.ref o] g (QI D vwCl A (tW o ad dI) z.1 z.2) := by
  unfold tF_prove at hf
  refine ct_intro (own := RX6) (lv0 := [(0, .ref o)]) (by decide) rfl (Nat.le_of_ble_eq_true rfl) rfl ?_
  intro p e s m args below meth c X hr
  refine tw_aload_n X dX6_prove_0 rfl 0 rfl ?_
  refine tw_bipush (v := 6) X dX6_prove_1 rfl ?_
  obtain ⟨g1, hg1, hf⟩ := bnd hf
  refine tw_callVv (As := [.int (6 : Int32)]) (st := []) X (tC_goesAll hg1) tG_goesAll tI_goesAll ⟨Nat.le_of_ble_eq_true rfl, Nat.le_of_ble_eq_true rfl⟩ ⟨Nat.zero_le _, Nat.zero_le _⟩ 0 rfl rfl rfl rfl (Nat.le_of_ble_eq_true rfl) dX6_prove_3 ?_
  refine tw_aload_n X dX6_prove_6 rfl 0 rfl ?_
  refine tg_shortestLong X  dX6_prove_7 ?_
  refine tw_if_ge (tgt := 16) X dX6_prove_10 rfl hf (fun q21 hf => ?_) (fun q21 hf => ?_)
  · clear q21
    refine tw_aload_n X dX6_prove_16 rfl 0 rfl ?_
    obtain ⟨g2, hg2, hf⟩ := bnd hf
    refine tw_callVv (As := []) (st := []) X (tC_puts hg2) tG_puts tI_puts ⟨Nat.le_of_ble_eq_true rfl, Nat.le_of_ble_eq_true rfl⟩ ⟨Nat.zero_le _, Nat.zero_le _⟩ 0 rfl rfl rfl rfl (Nat.le_of_ble_eq_true rfl) dX6_prove_17 ?_
    refine tw_aload_n X dX6_prove_20 rfl 0 rfl ?_
    refine tw_aload_n X dX6_prove_21 rfl 0 rfl ?_
    refine tg_shortestLong X  dX6_prove_22 ?_
    obtain ⟨g3, hg3, hf⟩ := bnd hf
    refine tp_rowMany X hg3 dX6_prove_25 ?_
    refine tw_iconst (v := 0) X dX6_prove_28 rfl ?_
    refine tw_istore_n (lv' := [(1, .int (0 : Int32)), (0, .ref o)]) X dX6_prove_29 rfl (by decide) rfl ?_
    refine bj_walk (P := fun j4 : St => TW p l e (rom 19 481) s m args below meth c (MQ below (QI D vwCl A (tW o ad dI) z.1 z.2) args s 0 0 A) D vwCl A (tW o ad dI) 2 0 0 j4 96 [(0, .ref o)] []) hf ?_ ?_
    · intro j4 hf
      refine tw_aload_n X dX6_prove_96 rfl 0 rfl ?_
      obtain ⟨g6, hg6, hf⟩ := bnd hf
      refine tw_callVv (As := []) (st := []) X (tC_putsBack hg6) tG_putsBack tI_putsBack ⟨Nat.le_of_ble_eq_true rfl, Nat.le_of_ble_eq_true rfl⟩ ⟨Nat.zero_le _, Nat.zero_le _⟩ 0 rfl rfl rfl rfl (Nat.le_of_ble_eq_true rfl) dX6_prove_97 ?_
      refine tw_aload_n X dX6_prove_100 rfl 0 rfl ?_
      refine tg_rowMany X  dX6_prove_101 ?_
      exact tw_iret X hr (prj1 hf) (prj2 hf) dX6_prove_104
    · intro zz20 hf hk5
      refine tw_sub [1, 0] (lv' := [(0, .ref o), (1, .int (0 : Int32))]) rfl ?_
      refine it_walk (P := un2 fun s7a s7b => TW p l e (rom 19 481) s m args below meth c (MQ below (QI D vwCl A (tW o ad dI) z.1 z.2) args s 0 0 A) D vwCl A (tW o ad dI) 2 0 0 s7a 30 [(0, .ref o), (1, .int s7b)] []) hf ?_
      rintro ⟨s7a, s7b⟩ zz19 hf hl8
      dsimp only [un2] at hf ⊢
      refine tw_iload_n X dX6_prove_30 rfl 1 rfl ?_
      refine tw_aload_n X dX6_prove_31 rfl 0 rfl ?_
      refine tg_rowMany X  dX6_prove_32 ?_
      refine tw_icmp_ge (tgt := 96) X dX6_prove_35 rfl hf (fun q18 hf => ?_) (fun q18 hf => ?_)
      · clear q18
        have hf9 := leafR hf hl8
        refine tw_sub [0] (lv' := [(0, .ref o)]) rfl ?_
        have hL := hk5 _ hf9
        exact hL
      · clear q18
        refine tw_aload_n X dX6_prove_38 rfl 0 rfl ?_
        refine tw_aload_n X dX6_prove_39 rfl 0 rfl ?_
        refine tg_shortest X  dX6_prove_40 ?_
        refine tw_iload_n X dX6_prove_43 rfl 1 rfl ?_
        obtain ⟨x10, hx10, hf⟩ := bnd hf
        refine ta_shortest X hx10 dX6_prove_44 ?_
        obtain ⟨g11, hg11, hf⟩ := bnd hf
        refine tw_callVv (As := [.int x10]) (st := []) X (tC_does hg11) tG_does tI_does ⟨Nat.le_of_ble_eq_true rfl, Nat.le_of_ble_eq_true rfl⟩ ⟨Nat.zero_le _, Nat.zero_le _⟩ 0 rfl rfl rfl rfl (Nat.le_of_ble_eq_true rfl) dX6_prove_45 ?_
        refine tw_aload_n X dX6_prove_48 rfl 0 rfl ?_
        refine tg_rows X  dX6_prove_49 ?_
        refine tw_iconst (v := 3) X dX6_prove_52 rfl ?_
        refine tw_iload_n X dX6_prove_53 rfl 1 rfl ?_
        refine tw_imul X dX6_prove_54 ?_
        refine tw_aload_n X dX6_prove_55 rfl 0 rfl ?_
        refine tg_shortest X  dX6_prove_56 ?_
        refine tw_iload_n X dX6_prove_59 rfl 1 rfl ?_
        obtain ⟨x12, hx12, hf⟩ := bnd hf
        refine ta_shortest X hx12 dX6_prove_60 ?_
        obtain ⟨g13, hg13, hf⟩ := bnd hf
        refine ts_rows X hg13 dX6_prove_61 ?_
        refine tw_aload_n X dX6_prove_62 rfl 0 rfl ?_
        refine tg_rows X  dX6_prove_63 ?_
        refine tw_iconst (v := 3) X dX6_prove_66 rfl ?_
        refine tw_iload_n X dX6_prove_67 rfl 1 rfl ?_
        refine tw_imul X dX6_prove_68 ?_
        refine tw_iconst (v := 1) X dX6_prove_69 rfl ?_
        refine tw_iadd X dX6_prove_70 ?_
        refine tw_aload_n X dX6_prove_71 rfl 0 rfl ?_
        obtain ⟨x14, hx14, hf⟩ := bnd hf
        refine tw_callVi (As := []) (st := [.int (((3 : Int32) * s7b) + (1 : Int32)), .ref (ad 23)]) X (tC_coinsAll hx14) tG_coinsAll tI_coinsAll ⟨Nat.le_of_ble_eq_true rfl, Nat.le_of_ble_eq_true rfl⟩ ⟨Nat.zero_le _, Nat.zero_le _⟩ 0 rfl rfl rfl rfl (Nat.le_of_ble_eq_true rfl) dX6_prove_72 ?_
        obtain ⟨g15, hg15, hf⟩ := bnd hf
        refine ts_rows X hg15 dX6_prove_75 ?_
        refine tw_aload_n X dX6_prove_76 rfl 0 rfl ?_
        refine tg_rows X  dX6_prove_77 ?_
        refine tw_iconst (v := 3) X dX6_prove_80 rfl ?_
        refine tw_iload_n X dX6_prove_81 rfl 1 rfl ?_
        refine tw_imul X dX6_prove_82 ?_
        refine tw_iconst (v := 2) X dX6_prove_83 rfl ?_
        refine tw_iadd X dX6_prove_84 ?_
        refine tw_aload_n X dX6_prove_85 rfl 0 rfl ?_
        obtain ⟨x16, hx16, hf⟩ := bnd hf
        refine tw_callVi (As := []) (st := [.int (((3 : Int32) * s7b) + (2 : Int32)), .ref (ad 23)]) X (tC_wholeSet hx16) tG_wholeSet tI_wholeSet ⟨Nat.le_of_ble_eq_true rfl, Nat.le_of_ble_eq_true rfl⟩ ⟨Nat.zero_le _, Nat.zero_le _⟩ 0 rfl rfl rfl rfl (Nat.le_of_ble_eq_true rfl) dX6_prove_86 ?_
        obtain ⟨g17, hg17, hf⟩ := bnd hf
        refine ts_rows X hg17 dX6_prove_89 ?_
        refine tw_iinc (q := 1) (v := (s7b + (1 : Int32))) (lv' := [(1, .int (s7b + (1 : Int32))), (0, .ref o)]) X dX6_prove_90 rfl rfl (by decide) rfl ?_
        refine tw_goto (tgt := 30) X dX6_prove_93 rfl ?_
        refine tw_sub [1, 0] (lv' := [(0, .ref o), (1, .int (s7b + (1 : Int32)))]) rfl ?_
        have hL := leafL hf hl8
        exact hL
  · clear q21
    refine tw_bipush (v := -3) X dX6_prove_13 rfl ?_
    exact tw_iret X hr (prj1 hf) (prj2 hf) dX6_prove_15
noncomputable def tF_condition : Nat → St → Option (St)
  | 0 => fun _ => none
  | d + 1 => fun g => let rc := tF_condition d
  if (g 0 32) = 0 then
    (tF_all rc g).bind fun g1 =>
    iter (L := St) (T := St) (fun s2 => 
      (tF_word s2).bind fun x4 =>
      if (lg_cmp x4 (498 : Int64)) = 0 then
        (tF_wants s2 (1 : Int32)).bind fun g5 =>
        (tF_all rc g5).bind fun g6 =>
        (tF_writes g6 (-22 : Int32)).bind fun g7 =>
        some (.inl g7)
      else
        some (.inr s2)) g1
  else
    some g
set_option maxHeartbeats 4000000 in
theorem tC_condition {l : Launch} {D : va_G} {A : Nat → Prop} {o : Nat} {ad : Nat → Nat} {dI : ClassId} : ∀ (d : Nat) (g : St) (z : St), tF_condition d g = some z → Ct l yX6_condition cX6_condition 1 none (4 + 9 * d) (88 + 194 * d) D vwCl [(dI, .int)] A (tW o ad dI) [.ref o] g (QV D vwCl A (tW o ad dI) z) := by
  intro d
  induction d with
  | zero =>
    intro g  z hf
    cases hf
  | succ d ih =>
    intro g  z hf
    rw [tF_condition] at hf
    generalize hrc : tF_condition d = rc at hf ih
    dsimp only at hf
    have hrec := ih
    generalize hF : (4 + 9 * d) = F at hrec
    generalize hLo : (88 + 194 * d) = Lo at hrec
    refine ct_intro (own := RX6) (lv0 := [(0, .ref o)]) (by decide) rfl (Nat.le_of_ble_eq_true rfl) rfl ?_
    intro p e s m args below meth c X hr
    refine tw_aload_n X dX6_condition_0 rfl 0 rfl ?_
    refine tg_isWrong X  dX6_condition_1 ?_
    refine tw_if_eq (tgt := 8) X dX6_condition_4 rfl hf (fun q11 hf => ?_) (fun q11 hf => ?_)
    · clear q11
      refine tw_aload_n X dX6_condition_8 rfl 0 rfl ?_
      obtain ⟨g1, hg1, hf⟩ := bnd hf
      refine tw_callVv (As := []) (st := []) X (tC_all hrec hg1) tG_all tI_all (rom_le (by omega) (by omega)) ⟨Nat.zero_le _, Nat.zero_le _⟩ 0 rfl rfl rfl rfl (Nat.le_of_ble_eq_true rfl) dX6_condition_9 ?_
      refine it_walk (P := fun s2 : St => TW p l e (rom (4 + 9 * (d + 1)) (88 + 194 * (d + 1))) s m args below meth c (MQ below (QV D vwCl A (tW o ad dI) z) args s 0 0 A) D vwCl A (tW o ad dI) 1 0 0 s2 12 [(0, .ref o)] []) hf ?_
      intro s2 zz10 hf hl3
      refine tw_aload_n X dX6_condition_12 rfl 0 rfl ?_
      obtain ⟨x4, hx4, hf⟩ := bnd hf
      refine tw_callVl (As := []) (st := []) X (tC_word hx4) tG_word tI_word (rom_le (by omega) (by omega)) ⟨Nat.zero_le _, Nat.zero_le _⟩ 0 rfl rfl rfl rfl (Nat.le_of_ble_eq_true rfl) dX6_condition_13 ?_
      refine tw_ldc2 (v := 498) X q2097 dX6_condition_16 ?_
      refine tw_lcmp X dX6_condition_19 ?_
      refine tw_if_ne (tgt := 41) X dX6_condition_20 rfl hf (fun q9 hf => ?_) (fun q9 hf => ?_)
      · clear q9
        refine tw_aload_n X dX6_condition_23 rfl 0 rfl ?_
        refine tw_iconst (v := 1) X dX6_condition_24 rfl ?_
        obtain ⟨g5, hg5, hf⟩ := bnd hf
        refine tw_callVv (As := [.int (1 : Int32)]) (st := []) X (tC_wants hg5) tG_wants tI_wants (rom_le (by omega) (by omega)) ⟨Nat.zero_le _, Nat.zero_le _⟩ 0 rfl rfl rfl rfl (Nat.le_of_ble_eq_true rfl) dX6_condition_25 ?_
        refine tw_aload_n X dX6_condition_28 rfl 0 rfl ?_
        obtain ⟨g6, hg6, hf⟩ := bnd hf
        refine tw_callVv (As := []) (st := []) X (tC_all hrec hg6) tG_all tI_all (rom_le (by omega) (by omega)) ⟨Nat.zero_le _, Nat.zero_le _⟩ 0 rfl rfl rfl rfl (Nat.le_of_ble_eq_true rfl) dX6_condition_29 ?_
        refine tw_aload_n X dX6_condition_32 rfl 0 rfl ?_
        refine tw_bipush (v := -22) X dX6_condition_33 rfl ?_
        obtain ⟨g7, hg7, hf⟩ := bnd hf
        refine tw_callVv (As := [.int (-22 : Int32)]) (st := []) X (tC_writes hg7) tG_writes tI_writes (rom_le (by omega) (by omega)) ⟨Nat.zero_le _, Nat.zero_le _⟩ 0 rfl rfl rfl rfl (Nat.le_of_ble_eq_true rfl) dX6_condition_35 ?_
        refine tw_goto (tgt := 12) X dX6_condition_38 rfl ?_
        have hL := leafL hf hl3
        exact hL
      · clear q9
        have hf8 := leafR hf hl3
        exact tw_vret X hr (Option.some.inj hf8) dX6_condition_41
    · clear q11
      exact tw_vret X hr (Option.some.inj hf) dX6_condition_7
noncomputable def tF_fewest (g : St) : Option (Int32 × St) :=
  (tF_goesAll g (6 : Int32)).bind fun g1 =>
  if 0 ≤ (g1 0 13) then
    some ((g1 0 13), g1)
  else
    some ((-3 : Int32), g1)
set_option maxHeartbeats 4000000 in
theorem tC_fewest {l : Launch} {D : va_G} {A : Nat → Prop} {o : Nat} {ad : Nat → Nat} {dI : ClassId} {g : St} {z : Int32 × St} (hf : tF_fewest g = some z) : Ct l yX6_fewest cX6_fewest 1 (some .int) 19 481 D vwCl [(dI, .int)] A (tW o ad dI) [.ref o] g (QI D vwCl A (tW o ad dI) z.1 z.2) := by
  unfold tF_fewest at hf
  refine ct_intro (own := RX6) (lv0 := [(0, .ref o)]) (by decide) rfl (Nat.le_of_ble_eq_true rfl) rfl ?_
  intro p e s m args below meth c X hr
  refine tw_aload_n X dX6_fewest_0 rfl 0 rfl ?_
  refine tw_bipush (v := 6) X dX6_fewest_1 rfl ?_
  obtain ⟨g1, hg1, hf⟩ := bnd hf
  refine tw_callVv (As := [.int (6 : Int32)]) (st := []) X (tC_goesAll hg1) tG_goesAll tI_goesAll ⟨Nat.le_of_ble_eq_true rfl, Nat.le_of_ble_eq_true rfl⟩ ⟨Nat.zero_le _, Nat.zero_le _⟩ 0 rfl rfl rfl rfl (Nat.le_of_ble_eq_true rfl) dX6_fewest_3 ?_
  refine tw_aload_n X dX6_fewest_6 rfl 0 rfl ?_
  refine tg_shortestLong X  dX6_fewest_7 ?_
  refine tw_if_ge (tgt := 18) X dX6_fewest_10 rfl hf (fun q2 hf => ?_) (fun q2 hf => ?_)
  · clear q2
    refine tw_aload_n X dX6_fewest_18 rfl 0 rfl ?_
    refine tg_shortestLong X  dX6_fewest_19 ?_
    exact tw_iret X hr (prj1 hf) (prj2 hf) dX6_fewest_22
  · clear q2
    refine tw_bipush (v := -3) X dX6_fewest_13 rfl ?_
    refine tw_goto (tgt := 22) X dX6_fewest_15 rfl ?_
    exact tw_iret X hr (prj1 hf) (prj2 hf) dX6_fewest_22
noncomputable def tF_rule (g : St) : Option (St) :=
  (tF_kindHere g).bind fun x1 =>
  Option.bind (α := Int32) (β := St)
    (if x1 < 0 then
      some (0 : Int32)
    else
      (rd (g 1) 340 (1 : Int32)).bind fun x47 =>
      if (8 : Int32) ≤ x47 then
        some (0 : Int32)
      else
        some (1 : Int32))
    (fun j2 => (tF_wants g j2).bind fun g4 =>
    (tF_word g4).bind fun x5 =>
    Option.bind (α := St) (β := St)
      (if (lg_cmp x5 (294 : Int64)) = 0 then
        (tF_wants g4 (1 : Int32)).bind fun g43 =>
        (tF_condition 5 g43).bind fun g44 =>
        some g44
      else
        some g4)
      (fun j6 => (tF_word j6).bind fun x8 =>
      Option.bind (α := Int32) (β := St)
        (if (lg_cmp x8 (441925 : Int64)) = 0 then
          some (0 : Int32)
        else
          if (lg_cmp x8 (398963 : Int64)) = 0 then
            some (1 : Int32)
          else
            if (lg_cmp x8 (215205 : Int64)) = 0 then
              some (2 : Int32)
            else
              some (-1 : Int32))
        (fun j9 => Option.bind (α := Int32) (β := St)
          (if j9 < 0 then
            some (0 : Int32)
          else
            some (1 : Int32))
          (fun j11 => (tF_wants j6 j11).bind fun g13 =>
          (pf g13 0 29 (0 : Int32)).bind fun g14 =>
          Option.bind (α := St) (β := St)
            (if j9 < 0 then
              some g14
            else
              if j9 = (2 : Int32) then
                some g14
              else
                if (g14 0 32) = 0 then
                  (tF_number g14 (99 : Int32)).bind fun g32 =>
                  some g32
                else
                  some g14)
            (fun j15 => Option.bind (α := Int32) (β := St)
              (if (j15 0 32) = 0 then
                (tF_byteAt j15 (j15 0 27)).bind fun x28 =>
                if x28 = (59 : Int32) then
                  some (1 : Int32)
                else
                  some (0 : Int32)
              else
                some (0 : Int32))
              (fun j17 => (tF_wants j15 j17).bind fun g19 =>
              if (g19 0 32) = 0 then
                (rd (g19 1) 340 (1 : Int32)).bind fun x20 =>
                (wr g19 1 340 (((106 : Int32) + ((4 : Int32) * x20)) + (0 : Int32)) x1).bind fun g21 =>
                (wr g21 1 340 (((106 : Int32) + ((4 : Int32) * x20)) + (1 : Int32)) j9).bind fun g22 =>
                (wr g22 1 340 (((106 : Int32) + ((4 : Int32) * x20)) + (2 : Int32)) (j15 0 29)).bind fun g23 =>
                (wr g23 1 340 (((106 : Int32) + ((4 : Int32) * x20)) + (3 : Int32)) (g23 0 31)).bind fun g24 =>
                (rd (g24 1) 340 (1 : Int32)).bind fun x25 =>
                (wr g24 1 340 (1 : Int32) (x25 + (1 : Int32))).bind fun g26 =>
                some g26
              else
                some g19))))))
set_option maxHeartbeats 4000000 in
theorem tC_rule {l : Launch} {D : va_G} {A : Nat → Prop} {o : Nat} {ad : Nat → Nat} {dI : ClassId} {g : St} {z : St} (hf : tF_rule g = some z) : Ct l yX6_rule cX6_rule 7 none 50 1078 D vwCl [(dI, .int)] A (tW o ad dI) [.ref o] g (QV D vwCl A (tW o ad dI) z) := by
  unfold tF_rule at hf
  refine ct_intro (own := RX6) (lv0 := [(0, .ref o)]) (by decide) rfl (Nat.le_of_ble_eq_true rfl) rfl ?_
  intro p e s m args below meth c X hr
  refine tw_aload_n X dX6_rule_0 rfl 0 rfl ?_
  obtain ⟨x1, hx1, hf⟩ := bnd hf
  refine tw_callVi (As := []) (st := []) X (tC_kindHere hx1) tG_kindHere tI_kindHere ⟨Nat.le_of_ble_eq_true rfl, Nat.le_of_ble_eq_true rfl⟩ ⟨Nat.zero_le _, Nat.zero_le _⟩ 0 rfl rfl rfl rfl (Nat.le_of_ble_eq_true rfl) dX6_rule_1 ?_
  refine tw_istore_n (lv' := [(1, .int x1), (0, .ref o)]) X dX6_rule_4 rfl (by decide) rfl ?_
  refine tw_aload_n X dX6_rule_5 rfl 1 rfl ?_
  refine tw_iload_n X dX6_rule_6 rfl 0 rfl ?_
  refine bj_walk (P := fun j2 : Int32 => TW p l e (rom 50 1078) s m args below meth c (MQ below (QV D vwCl A (tW o ad dI) z) args s 0 0 A) D vwCl A (tW o ad dI) 7 0 0 g 26 [(0, .ref o), (1, .int x1)] [.int j2, .ref o]) hf ?_ ?_
  · intro j2 hf
    obtain ⟨g4, hg4, hf⟩ := bnd hf
    refine tw_callVv (As := [.int j2]) (st := []) X (tC_wants hg4) tG_wants tI_wants ⟨Nat.le_of_ble_eq_true rfl, Nat.le_of_ble_eq_true rfl⟩ ⟨Nat.zero_le _, Nat.zero_le _⟩ 0 rfl rfl rfl rfl (Nat.le_of_ble_eq_true rfl) dX6_rule_26 ?_
    refine tw_aload_n X dX6_rule_29 rfl 0 rfl ?_
    obtain ⟨x5, hx5, hf⟩ := bnd hf
    refine tw_callVl (As := []) (st := []) X (tC_word hx5) tG_word tI_word ⟨Nat.le_of_ble_eq_true rfl, Nat.le_of_ble_eq_true rfl⟩ ⟨Nat.zero_le _, Nat.zero_le _⟩ 0 rfl rfl rfl rfl (Nat.le_of_ble_eq_true rfl) dX6_rule_30 ?_
    refine tw_ldc2 (v := 294) X q2057 dX6_rule_33 ?_
    refine tw_lcmp X dX6_rule_36 ?_
    refine bj_walk (P := fun j6 : St => TW p l e (rom 50 1078) s m args below meth c (MQ below (QV D vwCl A (tW o ad dI) z) args s 0 0 A) D vwCl A (tW o ad dI) 7 0 0 j6 49 [(0, .ref o), (1, .int x1)] []) hf ?_ ?_
    · intro j6 hf
      refine tw_aload_n X dX6_rule_49 rfl 0 rfl ?_
      obtain ⟨x8, hx8, hf⟩ := bnd hf
      refine tw_callVl (As := []) (st := []) X (tC_word hx8) tG_word tI_word ⟨Nat.le_of_ble_eq_true rfl, Nat.le_of_ble_eq_true rfl⟩ ⟨Nat.zero_le _, Nat.zero_le _⟩ 0 rfl rfl rfl rfl (Nat.le_of_ble_eq_true rfl) dX6_rule_50 ?_
      refine tw_lstore_n (lv' := [(2, .long x8), (0, .ref o), (1, .int x1)]) X dX6_rule_53 rfl (by decide) rfl ?_
      refine tw_lload_n X dX6_rule_54 rfl 0 rfl ?_
      refine tw_ldc2 (v := 441925) X q2098 dX6_rule_55 ?_
      refine tw_lcmp X dX6_rule_58 ?_
      refine bj_walk (P := fun j9 : Int32 => TW p l e (rom 50 1078) s m args below meth c (MQ below (QV D vwCl A (tW o ad dI) z) args s 0 0 A) D vwCl A (tW o ad dI) 7 0 0 j6 91 [(0, .ref o), (1, .int x1)] [.int j9]) hf ?_ ?_
      · intro j9 hf
        refine tw_istore (lv' := [(4, .int j9), (0, .ref o), (1, .int x1)]) X dX6_rule_91 (by decide) rfl ?_
        refine tw_aload_n X dX6_rule_93 rfl 1 rfl ?_
        refine tw_iload X dX6_rule_94 0 rfl ?_
        refine bj_walk (P := fun j11 : Int32 => TW p l e (rom 50 1078) s m args below meth c (MQ below (QV D vwCl A (tW o ad dI) z) args s 0 0 A) D vwCl A (tW o ad dI) 7 0 0 j6 104 [(0, .ref o), (1, .int x1), (4, .int j9)] [.int j11, .ref o]) hf ?_ ?_
        · intro j11 hf
          obtain ⟨g13, hg13, hf⟩ := bnd hf
          refine tw_callVv (As := [.int j11]) (st := []) X (tC_wants hg13) tG_wants tI_wants ⟨Nat.le_of_ble_eq_true rfl, Nat.le_of_ble_eq_true rfl⟩ ⟨Nat.zero_le _, Nat.zero_le _⟩ 0 rfl rfl rfl rfl (Nat.le_of_ble_eq_true rfl) dX6_rule_104 ?_
          refine tw_aload_n X dX6_rule_107 rfl 0 rfl ?_
          refine tw_iconst (v := 0) X dX6_rule_108 rfl ?_
          obtain ⟨g14, hg14, hf⟩ := bnd hf
          refine tp_value X hg14 dX6_rule_109 ?_
          refine tw_iload X dX6_rule_112 2 rfl ?_
          refine bj_walk (P := fun j15 : St => TW p l e (rom 50 1078) s m args below meth c (MQ below (QV D vwCl A (tW o ad dI) z) args s 0 0 A) D vwCl A (tW o ad dI) 7 0 0 j15 136 [(0, .ref o), (1, .int x1), (4, .int j9)] []) hf ?_ ?_
          · intro j15 hf
            refine tw_aload_n X dX6_rule_136 rfl 0 rfl ?_
            refine tg_value X  dX6_rule_137 ?_
            refine tw_istore (lv' := [(5, .int (j15 0 29)), (0, .ref o), (1, .int x1), (4, .int j9)]) X dX6_rule_140 (by decide) rfl ?_
            refine tw_aload_n X dX6_rule_142 rfl 1 rfl ?_
            refine tw_aload_n X dX6_rule_143 rfl 1 rfl ?_
            refine tg_isWrong X  dX6_rule_144 ?_
            refine bj_walk (P := fun j17 : Int32 => TW p l e (rom 50 1078) s m args below meth c (MQ below (QV D vwCl A (tW o ad dI) z) args s 0 0 A) D vwCl A (tW o ad dI) 7 0 0 j15 168 [(0, .ref o), (1, .int x1), (4, .int j9), (5, .int (j15 0 29))] [.int j17, .ref o]) hf ?_ ?_
            · intro j17 hf
              obtain ⟨g19, hg19, hf⟩ := bnd hf
              refine tw_callVv (As := [.int j17]) (st := []) X (tC_wants hg19) tG_wants tI_wants ⟨Nat.le_of_ble_eq_true rfl, Nat.le_of_ble_eq_true rfl⟩ ⟨Nat.zero_le _, Nat.zero_le _⟩ 0 rfl rfl rfl rfl (Nat.le_of_ble_eq_true rfl) dX6_rule_168 ?_
              refine tw_aload_n X dX6_rule_171 rfl 0 rfl ?_
              refine tg_isWrong X  dX6_rule_172 ?_
              refine tw_if_ne (tgt := 246) X dX6_rule_175 rfl hf (fun q27 hf => ?_) (fun q27 hf => ?_)
              · clear q27
                refine tw_bipush (v := 106) X dX6_rule_178 rfl ?_
                refine tw_iconst (v := 4) X dX6_rule_180 rfl ?_
                refine tw_aload_n X dX6_rule_181 rfl 0 rfl ?_
                refine tg_s X  dX6_rule_182 ?_
                refine tw_iconst (v := 1) X dX6_rule_185 rfl ?_
                obtain ⟨x20, hx20, hf⟩ := bnd hf
                refine ta_s X hx20 dX6_rule_186 ?_
                refine tw_imul X dX6_rule_187 ?_
                refine tw_iadd X dX6_rule_188 ?_
                refine tw_istore (lv' := [(6, .int ((106 : Int32) + ((4 : Int32) * x20))), (0, .ref o), (1, .int x1), (4, .int j9), (5, .int (j15 0 29))]) X dX6_rule_189 (by decide) rfl ?_
                refine tw_aload_n X dX6_rule_191 rfl 1 rfl ?_
                refine tg_s X  dX6_rule_192 ?_
                refine tw_iload X dX6_rule_195 0 rfl ?_
                refine tw_iconst (v := 0) X dX6_rule_197 rfl ?_
                refine tw_iadd X dX6_rule_198 ?_
                refine tw_iload_n X dX6_rule_199 rfl 2 rfl ?_
                obtain ⟨g21, hg21, hf⟩ := bnd hf
                refine ts_s X hg21 dX6_rule_200 ?_
                refine tw_aload_n X dX6_rule_201 rfl 1 rfl ?_
                refine tg_s X  dX6_rule_202 ?_
                refine tw_iload X dX6_rule_205 0 rfl ?_
                refine tw_iconst (v := 1) X dX6_rule_207 rfl ?_
                refine tw_iadd X dX6_rule_208 ?_
                refine tw_iload X dX6_rule_209 3 rfl ?_
                obtain ⟨g22, hg22, hf⟩ := bnd hf
                refine ts_s X hg22 dX6_rule_211 ?_
                refine tw_aload_n X dX6_rule_212 rfl 1 rfl ?_
                refine tg_s X  dX6_rule_213 ?_
                refine tw_iload X dX6_rule_216 0 rfl ?_
                refine tw_iconst (v := 2) X dX6_rule_218 rfl ?_
                refine tw_iadd X dX6_rule_219 ?_
                refine tw_iload X dX6_rule_220 4 rfl ?_
                obtain ⟨g23, hg23, hf⟩ := bnd hf
                refine ts_s X hg23 dX6_rule_222 ?_
                refine tw_aload_n X dX6_rule_223 rfl 1 rfl ?_
                refine tg_s X  dX6_rule_224 ?_
                refine tw_iload X dX6_rule_227 0 rfl ?_
                refine tw_iconst (v := 3) X dX6_rule_229 rfl ?_
                refine tw_iadd X dX6_rule_230 ?_
                refine tw_aload_n X dX6_rule_231 rfl 1 rfl ?_
                refine tg_coded X  dX6_rule_232 ?_
                obtain ⟨g24, hg24, hf⟩ := bnd hf
                refine ts_s X hg24 dX6_rule_235 ?_
                refine tw_aload_n X dX6_rule_236 rfl 1 rfl ?_
                refine tg_s X  dX6_rule_237 ?_
                refine tw_iconst (v := 1) X dX6_rule_240 rfl ?_
                refine tw_dup2_11 X dX6_rule_241 rfl rfl ?_
                obtain ⟨x25, hx25, hf⟩ := bnd hf
                refine ta_s X hx25 dX6_rule_242 ?_
                refine tw_iconst (v := 1) X dX6_rule_243 rfl ?_
                refine tw_iadd X dX6_rule_244 ?_
                obtain ⟨g26, hg26, hf⟩ := bnd hf
                refine ts_s X hg26 dX6_rule_245 ?_
                exact tw_vret X hr (Option.some.inj hf) dX6_rule_246
              · clear q27
                exact tw_vret X hr (Option.some.inj hf) dX6_rule_246
            · intro zz31 hf hk18
              refine tw_if_ne (tgt := 167) X dX6_rule_147 rfl hf (fun q30 hf => ?_) (fun q30 hf => ?_)
              · clear q30
                refine tw_aload_n X dX6_rule_150 rfl 1 rfl ?_
                refine tw_aload_n X dX6_rule_151 rfl 1 rfl ?_
                refine tg_from X  dX6_rule_152 ?_
                obtain ⟨x28, hx28, hf⟩ := bnd hf
                refine tw_callVi (As := [.int (j15 0 27)]) (st := [.ref o]) X (tC_byteAt hx28) tG_byteAt tI_byteAt ⟨Nat.le_of_ble_eq_true rfl, Nat.le_of_ble_eq_true rfl⟩ ⟨Nat.zero_le _, Nat.zero_le _⟩ 0 rfl rfl rfl rfl (Nat.le_of_ble_eq_true rfl) dX6_rule_155 ?_
                refine tw_bipush (v := 59) X dX6_rule_158 rfl ?_
                refine tw_icmp_ne (tgt := 167) X dX6_rule_160 rfl hf (fun q29 hf => ?_) (fun q29 hf => ?_)
                · clear q29
                  refine tw_iconst (v := 1) X dX6_rule_163 rfl ?_
                  refine tw_goto (tgt := 168) X dX6_rule_164 rfl ?_
                  refine tw_sub [1, 2, 3, 0] (lv' := [(0, .ref o), (1, .int x1), (4, .int j9), (5, .int (j15 0 29))]) rfl ?_
                  have hL := hk18 _ hf
                  exact hL
                · clear q29
                  refine tw_iconst (v := 0) X dX6_rule_167 rfl ?_
                  refine tw_sub [1, 2, 3, 0] (lv' := [(0, .ref o), (1, .int x1), (4, .int j9), (5, .int (j15 0 29))]) rfl ?_
                  have hL := hk18 _ hf
                  exact hL
              · clear q30
                refine tw_iconst (v := 0) X dX6_rule_167 rfl ?_
                refine tw_sub [1, 2, 3, 0] (lv' := [(0, .ref o), (1, .int x1), (4, .int j9), (5, .int (j15 0 29))]) rfl ?_
                have hL := hk18 _ hf
                exact hL
          · intro zz36 hf hk16
            refine tw_if_lt (tgt := 136) X dX6_rule_114 rfl hf (fun q35 hf => ?_) (fun q35 hf => ?_)
            · clear q35
              have hL := hk16 _ hf
              exact hL
            · clear q35
              refine tw_iload X dX6_rule_117 2 rfl ?_
              refine tw_iconst (v := 2) X dX6_rule_119 rfl ?_
              refine tw_icmp_eq (tgt := 136) X dX6_rule_120 rfl hf (fun q34 hf => ?_) (fun q34 hf => ?_)
              · clear q34
                have hL := hk16 _ hf
                exact hL
              · clear q34
                refine tw_aload_n X dX6_rule_123 rfl 0 rfl ?_
                refine tg_isWrong X  dX6_rule_124 ?_
                refine tw_if_ne (tgt := 136) X dX6_rule_127 rfl hf (fun q33 hf => ?_) (fun q33 hf => ?_)
                · clear q33
                  refine tw_aload_n X dX6_rule_130 rfl 0 rfl ?_
                  refine tw_bipush (v := 99) X dX6_rule_131 rfl ?_
                  obtain ⟨g32, hg32, hf⟩ := bnd hf
                  refine tw_callVv (As := [.int (99 : Int32)]) (st := []) X (tC_number hg32) tG_number tI_number ⟨Nat.le_of_ble_eq_true rfl, Nat.le_of_ble_eq_true rfl⟩ ⟨Nat.zero_le _, Nat.zero_le _⟩ 0 rfl rfl rfl rfl (Nat.le_of_ble_eq_true rfl) dX6_rule_133 ?_
                  have hL := hk16 _ hf
                  exact hL
                · clear q33
                  have hL := hk16 _ hf
                  exact hL
        · intro zz38 hf hk12
          refine tw_if_lt (tgt := 103) X dX6_rule_96 rfl hf (fun q37 hf => ?_) (fun q37 hf => ?_)
          · clear q37
            refine tw_iconst (v := 0) X dX6_rule_103 rfl ?_
            refine tw_sub [1, 2, 0] (lv' := [(0, .ref o), (1, .int x1), (4, .int j9)]) rfl ?_
            have hL := hk12 _ hf
            exact hL
          · clear q37
            refine tw_iconst (v := 1) X dX6_rule_99 rfl ?_
            refine tw_goto (tgt := 104) X dX6_rule_100 rfl ?_
            refine tw_sub [1, 2, 0] (lv' := [(0, .ref o), (1, .int x1), (4, .int j9)]) rfl ?_
            have hL := hk12 _ hf
            exact hL
      · intro zz42 hf hk10
        refine tw_if_ne (tgt := 66) X dX6_rule_59 rfl hf (fun q41 hf => ?_) (fun q41 hf => ?_)
        · clear q41
          refine tw_iconst (v := 0) X dX6_rule_62 rfl ?_
          refine tw_goto (tgt := 91) X dX6_rule_63 rfl ?_
          refine tw_sub [1, 2] (lv' := [(0, .ref o), (1, .int x1)]) rfl ?_
          have hL := hk10 _ hf
          exact hL
        · clear q41
          refine tw_lload_n X dX6_rule_66 rfl 0 rfl ?_
          refine tw_ldc2 (v := 398963) X q2099 dX6_rule_67 ?_
          refine tw_lcmp X dX6_rule_70 ?_
          refine tw_if_ne (tgt := 78) X dX6_rule_71 rfl hf (fun q40 hf => ?_) (fun q40 hf => ?_)
          · clear q40
            refine tw_iconst (v := 1) X dX6_rule_74 rfl ?_
            refine tw_goto (tgt := 91) X dX6_rule_75 rfl ?_
            refine tw_sub [1, 2] (lv' := [(0, .ref o), (1, .int x1)]) rfl ?_
            have hL := hk10 _ hf
            exact hL
          · clear q40
            refine tw_lload_n X dX6_rule_78 rfl 0 rfl ?_
            refine tw_ldc2 (v := 215205) X q2100 dX6_rule_79 ?_
            refine tw_lcmp X dX6_rule_82 ?_
            refine tw_if_ne (tgt := 90) X dX6_rule_83 rfl hf (fun q39 hf => ?_) (fun q39 hf => ?_)
            · clear q39
              refine tw_iconst (v := 2) X dX6_rule_86 rfl ?_
              refine tw_goto (tgt := 91) X dX6_rule_87 rfl ?_
              refine tw_sub [1, 2] (lv' := [(0, .ref o), (1, .int x1)]) rfl ?_
              have hL := hk10 _ hf
              exact hL
            · clear q39
              refine tw_iconst (v := -1) X dX6_rule_90 rfl ?_
              refine tw_sub [1, 2] (lv' := [(0, .ref o), (1, .int x1)]) rfl ?_
              have hL := hk10 _ hf
              exact hL
    · intro zz46 hf hk7
      refine tw_if_ne (tgt := 49) X dX6_rule_37 rfl hf (fun q45 hf => ?_) (fun q45 hf => ?_)
      · clear q45
        refine tw_aload_n X dX6_rule_40 rfl 0 rfl ?_
        refine tw_iconst (v := 1) X dX6_rule_41 rfl ?_
        obtain ⟨g43, hg43, hf⟩ := bnd hf
        refine tw_callVv (As := [.int (1 : Int32)]) (st := []) X (tC_wants hg43) tG_wants tI_wants ⟨Nat.le_of_ble_eq_true rfl, Nat.le_of_ble_eq_true rfl⟩ ⟨Nat.zero_le _, Nat.zero_le _⟩ 0 rfl rfl rfl rfl (Nat.le_of_ble_eq_true rfl) dX6_rule_42 ?_
        refine tw_aload_n X dX6_rule_45 rfl 0 rfl ?_
        obtain ⟨g44, hg44, hf⟩ := bnd hf
        refine tw_callVv (As := []) (st := []) X (tC_condition 5 _ _  hg44) tG_condition tI_condition ⟨Nat.le_of_ble_eq_true rfl, Nat.le_of_ble_eq_true rfl⟩ ⟨Nat.zero_le _, Nat.zero_le _⟩ 0 rfl rfl rfl rfl (Nat.le_of_ble_eq_true rfl) dX6_rule_46 ?_
        have hL := hk7 _ hf
        exact hL
      · clear q45
        have hL := hk7 _ hf
        exact hL
  · intro zz50 hf hk3
    refine tw_if_lt (tgt := 25) X dX6_rule_7 rfl hf (fun q49 hf => ?_) (fun q49 hf => ?_)
    · clear q49
      refine tw_iconst (v := 0) X dX6_rule_25 rfl ?_
      refine tw_sub [1, 0] (lv' := [(0, .ref o), (1, .int x1)]) rfl ?_
      have hL := hk3 _ hf
      exact hL
    · clear q49
      refine tw_aload_n X dX6_rule_10 rfl 1 rfl ?_
      refine tg_s X  dX6_rule_11 ?_
      refine tw_iconst (v := 1) X dX6_rule_14 rfl ?_
      obtain ⟨x47, hx47, hf⟩ := bnd hf
      refine ta_s X hx47 dX6_rule_15 ?_
      refine tw_bipush (v := 8) X dX6_rule_16 rfl ?_
      refine tw_icmp_ge (tgt := 25) X dX6_rule_18 rfl hf (fun q48 hf => ?_) (fun q48 hf => ?_)
      · clear q48
        refine tw_iconst (v := 0) X dX6_rule_25 rfl ?_
        refine tw_sub [1, 0] (lv' := [(0, .ref o), (1, .int x1)]) rfl ?_
        have hL := hk3 _ hf
        exact hL
      · clear q48
        refine tw_iconst (v := 1) X dX6_rule_21 rfl ?_
        refine tw_goto (tgt := 26) X dX6_rule_22 rfl ?_
        refine tw_sub [1, 0] (lv' := [(0, .ref o), (1, .int x1)]) rfl ?_
        have hL := hk3 _ hf
        exact hL
noncomputable def tF_rules (g : St) : Option (Int32 × St) :=
  (tF_puts g).bind fun g1 =>
  (wr g1 1 340 (1 : Int32) (0 : Int32)).bind fun g2 =>
  (pf g2 0 31 (0 : Int32)).bind fun g3 =>
  (pf g3 0 30 (0 : Int32)).bind fun g4 =>
  (pf g4 0 28 (0 : Int32)).bind fun g5 =>
  (pf g5 0 32 (0 : Int32)).bind fun g6 =>
  (tF_token g6).bind fun g7 =>
  Option.bind (α := St) (β := Int32 × St)
    (iter (L := St) (T := St) (fun s14 => 
      if (s14 0 32) = 0 then
        if (s14 0 26) ≤ (s14 0 27) then
          some (.inr s14)
        else
          (tF_rule s14).bind fun g17 =>
          some (.inl g17)
      else
        some (.inr s14)) g7)
    (fun j8 => (pf j8 0 26 (0 : Int32)).bind fun g10 =>
    if (g10 0 32) = 0 then
      (rd (g10 1) 340 (1 : Int32)).bind fun x11 =>
      some (x11, g10)
    else
      (tF_putsBack g10).bind fun g12 =>
      some (((-100 : Int32) - (g12 0 27)), g12))
set_option maxHeartbeats 4000000 in
theorem tC_rules {l : Launch} {D : va_G} {A : Nat → Prop} {o : Nat} {ad : Nat → Nat} {dI : ClassId} {g : St} {z : Int32 × St} (hf : tF_rules g = some z) : Ct l yX6_rules cX6_rules 1 (some .int) 51 1104 D vwCl [(dI, .int)] A (tW o ad dI) [.ref o] g (QI D vwCl A (tW o ad dI) z.1 z.2) := by
  unfold tF_rules at hf
  refine ct_intro (own := RX6) (lv0 := [(0, .ref o)]) (by decide) rfl (Nat.le_of_ble_eq_true rfl) rfl ?_
  intro p e s m args below meth c X hr
  refine tw_aload_n X dX6_rules_0 rfl 0 rfl ?_
  obtain ⟨g1, hg1, hf⟩ := bnd hf
  refine tw_callVv (As := []) (st := []) X (tC_puts hg1) tG_puts tI_puts ⟨Nat.le_of_ble_eq_true rfl, Nat.le_of_ble_eq_true rfl⟩ ⟨Nat.zero_le _, Nat.zero_le _⟩ 0 rfl rfl rfl rfl (Nat.le_of_ble_eq_true rfl) dX6_rules_1 ?_
  refine tw_aload_n X dX6_rules_4 rfl 0 rfl ?_
  refine tg_s X  dX6_rules_5 ?_
  refine tw_iconst (v := 1) X dX6_rules_8 rfl ?_
  refine tw_iconst (v := 0) X dX6_rules_9 rfl ?_
  obtain ⟨g2, hg2, hf⟩ := bnd hf
  refine ts_s X hg2 dX6_rules_10 ?_
  refine tw_aload_n X dX6_rules_11 rfl 0 rfl ?_
  refine tw_iconst (v := 0) X dX6_rules_12 rfl ?_
  obtain ⟨g3, hg3, hf⟩ := bnd hf
  refine tp_coded X hg3 dX6_rules_13 ?_
  refine tw_aload_n X dX6_rules_16 rfl 0 rfl ?_
  refine tw_iconst (v := 0) X dX6_rules_17 rfl ?_
  obtain ⟨g4, hg4, hf⟩ := bnd hf
  refine tp_open X hg4 dX6_rules_18 ?_
  refine tw_aload_n X dX6_rules_21 rfl 0 rfl ?_
  refine tw_iconst (v := 0) X dX6_rules_22 rfl ?_
  obtain ⟨g5, hg5, hf⟩ := bnd hf
  refine tp_to X hg5 dX6_rules_23 ?_
  refine tw_aload_n X dX6_rules_26 rfl 0 rfl ?_
  refine tw_iconst (v := 0) X dX6_rules_27 rfl ?_
  obtain ⟨g6, hg6, hf⟩ := bnd hf
  refine tp_isWrong X (Or.inl rfl) hg6 dX6_rules_28 ?_
  refine tw_aload_n X dX6_rules_31 rfl 0 rfl ?_
  obtain ⟨g7, hg7, hf⟩ := bnd hf
  refine tw_callVv (As := []) (st := []) X (tC_token hg7) tG_token tI_token ⟨Nat.le_of_ble_eq_true rfl, Nat.le_of_ble_eq_true rfl⟩ ⟨Nat.zero_le _, Nat.zero_le _⟩ 0 rfl rfl rfl rfl (Nat.le_of_ble_eq_true rfl) dX6_rules_32 ?_
  refine bj_walk (P := fun j8 : St => TW p l e (rom 51 1104) s m args below meth c (MQ below (QI D vwCl A (tW o ad dI) z.1 z.2) args s 0 0 A) D vwCl A (tW o ad dI) 1 0 0 j8 60 [(0, .ref o)] []) hf ?_ ?_
  · intro j8 hf
    refine tw_aload_n X dX6_rules_60 rfl 0 rfl ?_
    refine tw_iconst (v := 0) X dX6_rules_61 rfl ?_
    obtain ⟨g10, hg10, hf⟩ := bnd hf
    refine tp_taped X hg10 dX6_rules_62 ?_
    refine tw_aload_n X dX6_rules_65 rfl 0 rfl ?_
    refine tg_isWrong X  dX6_rules_66 ?_
    refine tw_if_eq (tgt := 84) X dX6_rules_69 rfl hf (fun q13 hf => ?_) (fun q13 hf => ?_)
    · clear q13
      refine tw_aload_n X dX6_rules_84 rfl 0 rfl ?_
      refine tg_s X  dX6_rules_85 ?_
      refine tw_iconst (v := 1) X dX6_rules_88 rfl ?_
      obtain ⟨x11, hx11, hf⟩ := bnd hf
      refine ta_s X hx11 dX6_rules_89 ?_
      exact tw_iret X hr (prj1 hf) (prj2 hf) dX6_rules_90
    · clear q13
      refine tw_aload_n X dX6_rules_72 rfl 0 rfl ?_
      obtain ⟨g12, hg12, hf⟩ := bnd hf
      refine tw_callVv (As := []) (st := []) X (tC_putsBack hg12) tG_putsBack tI_putsBack ⟨Nat.le_of_ble_eq_true rfl, Nat.le_of_ble_eq_true rfl⟩ ⟨Nat.zero_le _, Nat.zero_le _⟩ 0 rfl rfl rfl rfl (Nat.le_of_ble_eq_true rfl) dX6_rules_73 ?_
      refine tw_bipush (v := -100) X dX6_rules_76 rfl ?_
      refine tw_aload_n X dX6_rules_78 rfl 0 rfl ?_
      refine tg_from X  dX6_rules_79 ?_
      refine tw_isub X dX6_rules_82 ?_
      exact tw_iret X hr (prj1 hf) (prj2 hf) dX6_rules_83
  · intro zz22 hf hk9
    refine it_walk (P := fun s14 : St => TW p l e (rom 51 1104) s m args below meth c (MQ below (QI D vwCl A (tW o ad dI) z.1 z.2) args s 0 0 A) D vwCl A (tW o ad dI) 1 0 0 s14 35 [(0, .ref o)] []) hf ?_
    intro s14 zz21 hf hl15
    refine tw_aload_n X dX6_rules_35 rfl 0 rfl ?_
    refine tg_isWrong X  dX6_rules_36 ?_
    refine tw_if_ne (tgt := 60) X dX6_rules_39 rfl hf (fun q20 hf => ?_) (fun q20 hf => ?_)
    · clear q20
      refine tw_aload_n X dX6_rules_42 rfl 0 rfl ?_
      refine tg_from X  dX6_rules_43 ?_
      refine tw_aload_n X dX6_rules_46 rfl 0 rfl ?_
      refine tg_taped X  dX6_rules_47 ?_
      refine tw_icmp_ge (tgt := 60) X dX6_rules_50 rfl hf (fun q18 hf => ?_) (fun q18 hf => ?_)
      · clear q18
        have hf16 := leafR hf hl15
        have hL := hk9 _ hf16
        exact hL
      · clear q18
        refine tw_aload_n X dX6_rules_53 rfl 0 rfl ?_
        obtain ⟨g17, hg17, hf⟩ := bnd hf
        refine tw_callVv (As := []) (st := []) X (tC_rule hg17) tG_rule tI_rule ⟨Nat.le_of_ble_eq_true rfl, Nat.le_of_ble_eq_true rfl⟩ ⟨Nat.zero_le _, Nat.zero_le _⟩ 0 rfl rfl rfl rfl (Nat.le_of_ble_eq_true rfl) dX6_rules_54 ?_
        refine tw_goto (tgt := 35) X dX6_rules_57 rfl ?_
        have hL := leafL hf hl15
        exact hL
    · clear q20
      have hf19 := leafR hf hl15
      have hL := hk9 _ hf19
      exact hL
