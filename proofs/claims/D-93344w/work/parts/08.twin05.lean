/-! THE TWIN's METHODS: a function and a contract each (printed by gen/mk_twin.py) -/
set_option maxRecDepth 100000
noncomputable def tF_one (rc : St → Option (St)) (g : St) : Option (St) :=
  Option.bind (α := St × Int32) (β := St)
    (iter (L := St × Int32) (T := St × Int32) (un2 fun s28a s28b => 
      (tF_word s28a).bind fun x30 =>
      if (lg_cmp x30 (14836 : Int64)) = 0 then
        Option.bind (α := Int32) (β := ((St × Int32) ⊕ (St × Int32)))
          (if s28b = 0 then
            some (1 : Int32)
          else
            some (0 : Int32))
          (fun j31 => (tF_wants s28a (1 : Int32)).bind fun g33 =>
          some (.inl (g33, j31)))
      else
        some (.inr (s28a, s28b))) (g, (0 : Int32)))
    (un2 fun j1a j1b => Option.bind (α := St) (β := St)
      (if (j1a 0 32) = 0 then
        (tF_byteAt j1a (j1a 0 27)).bind fun x7 =>
        if x7 = (40 : Int32) then
          Option.bind (α := Int32) (β := St)
            (if (3 : Int32) ≤ (j1a 0 30) then
              some (0 : Int32)
            else
              some (1 : Int32))
            (fun j8 => (tF_wants j1a j8).bind fun g10 =>
            (pf g10 0 30 ((g10 0 30) + (1 : Int32))).bind fun g11 =>
            (rc g11).bind fun g12 =>
            (pf g12 0 30 ((g12 0 30) - (1 : Int32))).bind fun g13 =>
            Option.bind (α := Int32) (β := St)
              (if (g13 0 32) = 0 then
                (tF_byteAt g13 (g13 0 27)).bind fun x17 =>
                if x17 = (41 : Int32) then
                  some (1 : Int32)
                else
                  some (0 : Int32)
              else
                some (0 : Int32))
              (fun j14 => (tF_wants g13 j14).bind fun g16 =>
              some g16))
        else
          (tF_comparison j1a).bind fun g23 =>
          some g23
      else
        (tF_comparison j1a).bind fun g25 =>
        some g25)
      (fun j3 => if j1b = 0 then
        some j3
      else
        (tF_writes j3 (-20 : Int32)).bind fun g5 =>
        some g5))
set_option maxHeartbeats 4000000 in
theorem tC_one {l : Launch} {D : va_G} {A : Nat → Prop} {o : Nat} {ad : Nat → Nat} {dI : ClassId} {F Lo : Nat} {rc : St → Option (St)} (hrec : ∀ (g : St) (z : St), rc g = some z → Ct l yX6_condition cX6_condition 1 none F Lo D vwCl [(dI, .int)] A (tW o ad dI) [.ref o] g (QV D vwCl A (tW o ad dI) z)) {g : St} {z : St} (hf : tF_one rc g = some z) : Ct l yX6_one cX6_one 2 none (F + 7) (Lo + 153) D vwCl [(dI, .int)] A (tW o ad dI) [.ref o] g (QV D vwCl A (tW o ad dI) z) := by
  unfold tF_one at hf
  refine ct_intro (own := RX6) (lv0 := [(0, .ref o)]) (by decide) rfl (Nat.le_of_ble_eq_true rfl) rfl ?_
  intro p e s m args below meth c X hr
  refine tw_iconst (v := 0) X dX6_one_0 rfl ?_
  refine tw_istore_n (lv' := [(1, .int (0 : Int32)), (0, .ref o)]) X dX6_one_1 rfl (by decide) rfl ?_
  refine bj_walk (P := un2 fun j1a j1b => TW p l e (rom (F + 7) (Lo + 153)) s m args below meth c (MQ below (QV D vwCl A (tW o ad dI) z) args s 0 0 A) D vwCl A (tW o ad dI) 2 0 0 j1a 31 [(0, .ref o), (1, .int j1b)] []) hf ?_ ?_
  · rintro ⟨j1a, j1b⟩ hf
    dsimp only [un2] at hf ⊢
    refine tw_aload_n X dX6_one_31 rfl 0 rfl ?_
    refine tg_isWrong X  dX6_one_32 ?_
    refine bj_walk (P := fun j3 : St => TW p l e (rom (F + 7) (Lo + 153)) s m args below meth c (MQ below (QV D vwCl A (tW o ad dI) z) args s 0 0 A) D vwCl A (tW o ad dI) 2 0 0 j3 128 [(0, .ref o), (1, .int j1b)] []) hf ?_ ?_
    · intro j3 hf
      refine tw_iload_n X dX6_one_128 rfl 1 rfl ?_
      refine tw_if_eq (tgt := 138) X dX6_one_129 rfl hf (fun q6 hf => ?_) (fun q6 hf => ?_)
      · clear q6
        exact tw_vret X hr (Option.some.inj hf) dX6_one_138
      · clear q6
        refine tw_aload_n X dX6_one_132 rfl 0 rfl ?_
        refine tw_bipush (v := -20) X dX6_one_133 rfl ?_
        obtain ⟨g5, hg5, hf⟩ := bnd hf
        refine tw_callVv (As := [.int (-20 : Int32)]) (st := []) X (tC_writes hg5) tG_writes tI_writes (rom_le (by omega) (by omega)) ⟨Nat.zero_le _, Nat.zero_le _⟩ 0 rfl rfl rfl rfl (Nat.le_of_ble_eq_true rfl) dX6_one_135 ?_
        exact tw_vret X hr (Option.some.inj hf) dX6_one_138
    · intro zz27 hf hk4
      refine tw_if_ne (tgt := 124) X dX6_one_35 rfl hf (fun q26 hf => ?_) (fun q26 hf => ?_)
      · clear q26
        refine tw_aload_n X dX6_one_38 rfl 0 rfl ?_
        refine tw_aload_n X dX6_one_39 rfl 0 rfl ?_
        refine tg_from X  dX6_one_40 ?_
        obtain ⟨x7, hx7, hf⟩ := bnd hf
        refine tw_callVi (As := [.int (j1a 0 27)]) (st := []) X (tC_byteAt hx7) tG_byteAt tI_byteAt (rom_le (by omega) (by omega)) ⟨Nat.zero_le _, Nat.zero_le _⟩ 0 rfl rfl rfl rfl (Nat.le_of_ble_eq_true rfl) dX6_one_43 ?_
        refine tw_bipush (v := 40) X dX6_one_46 rfl ?_
        refine tw_icmp_ne (tgt := 124) X dX6_one_48 rfl hf (fun q24 hf => ?_) (fun q24 hf => ?_)
        · clear q24
          refine tw_aload_n X dX6_one_51 rfl 0 rfl ?_
          refine tw_aload_n X dX6_one_52 rfl 0 rfl ?_
          refine tg_open X  dX6_one_53 ?_
          refine tw_iconst (v := 3) X dX6_one_56 rfl ?_
          refine bj_walk (P := fun j8 : Int32 => TW p l e (rom (F + 7) (Lo + 153)) s m args below meth c (MQ below (QV D vwCl A (tW o ad dI) z) args s 0 0 A) D vwCl A (tW o ad dI) 2 0 0 j1a 65 [(0, .ref o), (1, .int j1b)] [.int j8, .ref o]) hf ?_ ?_
          · intro j8 hf
            obtain ⟨g10, hg10, hf⟩ := bnd hf
            refine tw_callVv (As := [.int j8]) (st := []) X (tC_wants hg10) tG_wants tI_wants (rom_le (by omega) (by omega)) ⟨Nat.zero_le _, Nat.zero_le _⟩ 0 rfl rfl rfl rfl (Nat.le_of_ble_eq_true rfl) dX6_one_65 ?_
            refine tw_aload_n X dX6_one_68 rfl 0 rfl ?_
            refine tw_dup X dX6_one_69 rfl ?_
            refine tg_open X  dX6_one_70 ?_
            refine tw_iconst (v := 1) X dX6_one_73 rfl ?_
            refine tw_iadd X dX6_one_74 ?_
            obtain ⟨g11, hg11, hf⟩ := bnd hf
            refine tp_open X hg11 dX6_one_75 ?_
            refine tw_aload_n X dX6_one_78 rfl 0 rfl ?_
            obtain ⟨g12, hg12, hf⟩ := bnd hf
            refine tw_callVv (As := []) (st := []) X (hrec _ _  hg12) tG_condition tI_condition (rom_le (by omega) (by omega)) ⟨Nat.zero_le _, Nat.zero_le _⟩ 0 rfl rfl rfl rfl (Nat.le_of_ble_eq_true rfl) dX6_one_79 ?_
            refine tw_aload_n X dX6_one_82 rfl 0 rfl ?_
            refine tw_dup X dX6_one_83 rfl ?_
            refine tg_open X  dX6_one_84 ?_
            refine tw_iconst (v := 1) X dX6_one_87 rfl ?_
            refine tw_isub X dX6_one_88 ?_
            obtain ⟨g13, hg13, hf⟩ := bnd hf
            refine tp_open X hg13 dX6_one_89 ?_
            refine tw_aload_n X dX6_one_92 rfl 0 rfl ?_
            refine tw_aload_n X dX6_one_93 rfl 0 rfl ?_
            refine tg_isWrong X  dX6_one_94 ?_
            refine bj_walk (P := fun j14 : Int32 => TW p l e (rom (F + 7) (Lo + 153)) s m args below meth c (MQ below (QV D vwCl A (tW o ad dI) z) args s 0 0 A) D vwCl A (tW o ad dI) 2 0 0 g13 118 [(0, .ref o), (1, .int j1b)] [.int j14, .ref o]) hf ?_ ?_
            · intro j14 hf
              obtain ⟨g16, hg16, hf⟩ := bnd hf
              refine tw_callVv (As := [.int j14]) (st := []) X (tC_wants hg16) tG_wants tI_wants (rom_le (by omega) (by omega)) ⟨Nat.zero_le _, Nat.zero_le _⟩ 0 rfl rfl rfl rfl (Nat.le_of_ble_eq_true rfl) dX6_one_118 ?_
              refine tw_goto (tgt := 128) X dX6_one_121 rfl ?_
              have hL := hk4 _ hf
              exact hL
            · intro zz20 hf hk15
              refine tw_if_ne (tgt := 117) X dX6_one_97 rfl hf (fun q19 hf => ?_) (fun q19 hf => ?_)
              · clear q19
                refine tw_aload_n X dX6_one_100 rfl 0 rfl ?_
                refine tw_aload_n X dX6_one_101 rfl 0 rfl ?_
                refine tg_from X  dX6_one_102 ?_
                obtain ⟨x17, hx17, hf⟩ := bnd hf
                refine tw_callVi (As := [.int (g13 0 27)]) (st := [.ref o]) X (tC_byteAt hx17) tG_byteAt tI_byteAt (rom_le (by omega) (by omega)) ⟨Nat.zero_le _, Nat.zero_le _⟩ 0 rfl rfl rfl rfl (Nat.le_of_ble_eq_true rfl) dX6_one_105 ?_
                refine tw_bipush (v := 41) X dX6_one_108 rfl ?_
                refine tw_icmp_ne (tgt := 117) X dX6_one_110 rfl hf (fun q18 hf => ?_) (fun q18 hf => ?_)
                · clear q18
                  refine tw_iconst (v := 1) X dX6_one_113 rfl ?_
                  refine tw_goto (tgt := 118) X dX6_one_114 rfl ?_
                  have hL := hk15 _ hf
                  exact hL
                · clear q18
                  refine tw_iconst (v := 0) X dX6_one_117 rfl ?_
                  have hL := hk15 _ hf
                  exact hL
              · clear q19
                refine tw_iconst (v := 0) X dX6_one_117 rfl ?_
                have hL := hk15 _ hf
                exact hL
          · intro zz22 hf hk9
            refine tw_icmp_ge (tgt := 64) X dX6_one_57 rfl hf (fun q21 hf => ?_) (fun q21 hf => ?_)
            · clear q21
              refine tw_iconst (v := 0) X dX6_one_64 rfl ?_
              have hL := hk9 _ hf
              exact hL
            · clear q21
              refine tw_iconst (v := 1) X dX6_one_60 rfl ?_
              refine tw_goto (tgt := 65) X dX6_one_61 rfl ?_
              have hL := hk9 _ hf
              exact hL
        · clear q24
          refine tw_aload_n X dX6_one_124 rfl 0 rfl ?_
          obtain ⟨g23, hg23, hf⟩ := bnd hf
          refine tw_callVv (As := []) (st := []) X (tC_comparison hg23) tG_comparison tI_comparison (rom_le (by omega) (by omega)) ⟨Nat.zero_le _, Nat.zero_le _⟩ 0 rfl rfl rfl rfl (Nat.le_of_ble_eq_true rfl) dX6_one_125 ?_
          have hL := hk4 _ hf
          exact hL
      · clear q26
        refine tw_aload_n X dX6_one_124 rfl 0 rfl ?_
        obtain ⟨g25, hg25, hf⟩ := bnd hf
        refine tw_callVv (As := []) (st := []) X (tC_comparison hg25) tG_comparison tI_comparison (rom_le (by omega) (by omega)) ⟨Nat.zero_le _, Nat.zero_le _⟩ 0 rfl rfl rfl rfl (Nat.le_of_ble_eq_true rfl) dX6_one_125 ?_
        have hL := hk4 _ hf
        exact hL
  · intro zz39 hf hk2
    refine tw_sub [1, 0] (lv' := [(0, .ref o), (1, .int (0 : Int32))]) rfl ?_
    refine it_walk (P := un2 fun s28a s28b => TW p l e (rom (F + 7) (Lo + 153)) s m args below meth c (MQ below (QV D vwCl A (tW o ad dI) z) args s 0 0 A) D vwCl A (tW o ad dI) 2 0 0 s28a 2 [(0, .ref o), (1, .int s28b)] []) hf ?_
    rintro ⟨s28a, s28b⟩ zz38 hf hl29
    dsimp only [un2] at hf ⊢
    refine tw_aload_n X dX6_one_2 rfl 0 rfl ?_
    obtain ⟨x30, hx30, hf⟩ := bnd hf
    refine tw_callVl (As := []) (st := []) X (tC_word hx30) tG_word tI_word (rom_le (by omega) (by omega)) ⟨Nat.zero_le _, Nat.zero_le _⟩ 0 rfl rfl rfl rfl (Nat.le_of_ble_eq_true rfl) dX6_one_3 ?_
    refine tw_ldc2 (v := 14836) X q2070 dX6_one_6 ?_
    refine tw_lcmp X dX6_one_9 ?_
    refine tw_if_ne (tgt := 31) X dX6_one_10 rfl hf (fun q37 hf => ?_) (fun q37 hf => ?_)
    · clear q37
      refine tw_iload_n X dX6_one_13 rfl 1 rfl ?_
      refine bj_walk (P := fun j31 : Int32 => TW p l e (rom (F + 7) (Lo + 153)) s m args below meth c (MQ below (QV D vwCl A (tW o ad dI) z) args s 0 0 A) D vwCl A (tW o ad dI) 2 0 0 s28a 22 [(0, .ref o)] [.int j31]) hf ?_ ?_
      · intro j31 hf
        refine tw_istore_n (lv' := [(1, .int j31), (0, .ref o)]) X dX6_one_22 rfl (by decide) rfl ?_
        refine tw_aload_n X dX6_one_23 rfl 1 rfl ?_
        refine tw_iconst (v := 1) X dX6_one_24 rfl ?_
        obtain ⟨g33, hg33, hf⟩ := bnd hf
        refine tw_callVv (As := [.int (1 : Int32)]) (st := []) X (tC_wants hg33) tG_wants tI_wants (rom_le (by omega) (by omega)) ⟨Nat.zero_le _, Nat.zero_le _⟩ 0 rfl rfl rfl rfl (Nat.le_of_ble_eq_true rfl) dX6_one_25 ?_
        refine tw_goto (tgt := 2) X dX6_one_28 rfl ?_
        refine tw_sub [1, 0] (lv' := [(0, .ref o), (1, .int j31)]) rfl ?_
        have hL := leafL hf hl29
        exact hL
      · intro zz35 hf hk32
        refine tw_if_ne (tgt := 21) X dX6_one_14 rfl hf (fun q34 hf => ?_) (fun q34 hf => ?_)
        · clear q34
          refine tw_iconst (v := 1) X dX6_one_17 rfl ?_
          refine tw_goto (tgt := 22) X dX6_one_18 rfl ?_
          refine tw_sub [0] (lv' := [(0, .ref o)]) rfl ?_
          have hL := hk32 _ hf
          exact hL
        · clear q34
          refine tw_iconst (v := 0) X dX6_one_21 rfl ?_
          refine tw_sub [0] (lv' := [(0, .ref o)]) rfl ?_
          have hL := hk32 _ hf
          exact hL
    · clear q37
      have hf36 := leafR hf hl29
      have hL := hk2 _ hf36
      exact hL
noncomputable def tF_isOnTurn (g : St) (a1 : Int32) (a2 : Int32) : Option (Int32 × St) :=
  (rd (g 36) 160 (((40 : Int32) * a1) + a2)).bind fun x1 =>
  (tF_isNumber g x1).bind fun x2 =>
  if x2 = 0 then
    some ((0 : Int32), g)
  else
    (tF_canBe g x1).bind (un2 fun y4a y4b =>
    if y4a = 0 then
      some ((0 : Int32), y4b)
    else
      some ((1 : Int32), y4b))
set_option maxHeartbeats 4000000 in
theorem tC_isOnTurn {l : Launch} {D : va_G} {A : Nat → Prop} {o : Nat} {ad : Nat → Nat} {dI : ClassId} {g : St} {a1 : Int32} {a2 : Int32} {z : Int32 × St} (hf : tF_isOnTurn g a1 a2 = some z) : Ct l yX6_isOnTurn cX6_isOnTurn 4 (some .boolean) 8 185 D vwCl [(dI, .int)] A (tW o ad dI) [.ref o, .int a1, .int a2] g (QZ D vwCl A (tW o ad dI) z.1 z.2) := by
  unfold tF_isOnTurn at hf
  refine ct_intro (own := RX6) (lv0 := [(0, .ref o), (1, .int a1), (2, .int a2)]) (by decide) rfl (Nat.le_of_ble_eq_true rfl) rfl ?_
  intro p e s m args below meth c X hr
  refine tw_aload_n X dX6_isOnTurn_0 rfl 0 rfl ?_
  refine tg_items X  dX6_isOnTurn_1 ?_
  refine tw_bipush (v := 40) X dX6_isOnTurn_4 rfl ?_
  refine tw_iload_n X dX6_isOnTurn_6 rfl 1 rfl ?_
  refine tw_imul X dX6_isOnTurn_7 ?_
  refine tw_iload_n X dX6_isOnTurn_8 rfl 2 rfl ?_
  refine tw_iadd X dX6_isOnTurn_9 ?_
  obtain ⟨x1, hx1, hf⟩ := bnd hf
  refine ta_items X hx1 dX6_isOnTurn_10 ?_
  refine tw_istore_n (lv' := [(3, .int x1), (0, .ref o), (1, .int a1), (2, .int a2)]) X dX6_isOnTurn_11 rfl (by decide) rfl ?_
  refine tw_aload_n X dX6_isOnTurn_12 rfl 1 rfl ?_
  refine tw_iload_n X dX6_isOnTurn_13 rfl 0 rfl ?_
  obtain ⟨x2, hx2, hf⟩ := bnd hf
  refine tw_callVz (As := [.int x1]) (st := []) X (tC_isNumber hx2) tG_isNumber tI_isNumber ⟨Nat.le_of_ble_eq_true rfl, Nat.le_of_ble_eq_true rfl⟩ ⟨Nat.zero_le _, Nat.zero_le _⟩ 0 rfl rfl rfl rfl (Nat.le_of_ble_eq_true rfl) dX6_isOnTurn_14 ?_
  intro hb3
  refine tw_if_eq (tgt := 32) X dX6_isOnTurn_17 rfl hf (fun q7 hf => ?_) (fun q7 hf => ?_)
  · clear q7
    refine tw_iconst (v := 0) X dX6_isOnTurn_32 rfl ?_
    exact tw_zret X hr (Or.inl rfl) (prj1 hf) (prj2 hf) dX6_isOnTurn_33
  · clear q7
    refine tw_aload_n X dX6_isOnTurn_20 rfl 1 rfl ?_
    refine tw_iload_n X dX6_isOnTurn_21 rfl 0 rfl ?_
    obtain ⟨⟨y4a, y4b⟩, hy4, hf⟩ := bnd hf
    dsimp only [un2] at hf
    refine tw_callVz (As := [.int x1]) (st := []) X (tC_canBe hy4) tG_canBe tI_canBe ⟨Nat.le_of_ble_eq_true rfl, Nat.le_of_ble_eq_true rfl⟩ ⟨Nat.zero_le _, Nat.zero_le _⟩ 0 rfl rfl rfl rfl (Nat.le_of_ble_eq_true rfl) dX6_isOnTurn_22 ?_
    intro hb5
    refine tw_if_eq (tgt := 32) X dX6_isOnTurn_25 rfl hf (fun q6 hf => ?_) (fun q6 hf => ?_)
    · clear q6
      refine tw_iconst (v := 0) X dX6_isOnTurn_32 rfl ?_
      exact tw_zret X hr (Or.inl rfl) (prj1 hf) (prj2 hf) dX6_isOnTurn_33
    · clear q6
      refine tw_iconst (v := 1) X dX6_isOnTurn_28 rfl ?_
      refine tw_goto (tgt := 33) X dX6_isOnTurn_29 rfl ?_
      exact tw_zret X hr (Or.inr rfl) (prj1 hf) (prj2 hf) dX6_isOnTurn_33
noncomputable def tF_wouldCost (g : St) (a1 : Int32) (a2 : Int32) (a3 : Int32) : Option (Int32 × St) :=
  if (tF_isSpan a1 a3) = 0 then
    some ((-1 : Int32), g)
  else
    (tF_whyNot g a1 (0 : Int32)).bind fun x2 =>
    if x2 = 0 then
      (tF_puts g).bind fun g3 =>
      Option.bind (α := St × Int32 × Int32) (β := Int32 × St)
        (iter (L := St × Int32 × Int32 × Int32) (T := St × Int32 × Int32) (un4 fun s8a s8b s8c s8d => 
          if a3 ≤ s8d then
            some (.inr (s8a, s8b, s8c))
          else
            if s8b = 0 then
              (tF_isItem s8a a1 ((a2).toInt64 + (s8d).toInt64)).bind fun x11 =>
              Option.bind (α := St × Int32) (β := ((St × Int32 × Int32 × Int32) ⊕ (St × Int32 × Int32)))
                (if x11 = 0 then
                  some (s8a, (-12 : Int32))
                else
                  (tF_isOnTurn s8a a1 (a2 + s8d)).bind (un2 fun y18a y18b =>
                  if y18a = 0 then
                    some (y18b, (-4 : Int32))
                  else
                    some (y18b, (0 : Int32))))
                (un2 fun j13a j13b => if j13b = 0 then
                  (rd (j13a 36) 160 ((((40 : Int32) * a1) + a2) + s8d)).bind fun x15 =>
                  (tF_does j13a x15).bind fun g16 =>
                  some (.inl (g16, j13b, (s8c + (g16 0 7)), (s8d + (1 : Int32))))
                else
                  some (.inl (j13a, j13b, s8c, (s8d + (1 : Int32)))))
            else
              some (.inr (s8a, s8b, s8c))) (g3, x2, (0 : Int32), (0 : Int32)))
        (un3 fun j4a j4b j4c => (tF_putsBack j4a).bind fun g6 =>
        if j4b = 0 then
          some (j4c, g6)
        else
          some (j4b, g6))
    else
      some (x2, g)
set_option maxHeartbeats 4000000 in
theorem tC_wouldCost {l : Launch} {D : va_G} {A : Nat → Prop} {o : Nat} {ad : Nat → Nat} {dI : ClassId} {g : St} {a1 : Int32} {a2 : Int32} {a3 : Int32} {z : Int32 × St} (hf : tF_wouldCost g a1 a2 a3 = some z) : Ct l yX6_wouldCost cX6_wouldCost 8 (some .int) 9 208 D vwCl [(dI, .int)] A (tW o ad dI) [.ref o, .int a1, .int a2, .int a3] g (QI D vwCl A (tW o ad dI) z.1 z.2) := by
  unfold tF_wouldCost at hf
  refine ct_intro (own := RX6) (lv0 := [(0, .ref o), (1, .int a1), (2, .int a2), (3, .int a3)]) (by decide) rfl (Nat.le_of_ble_eq_true rfl) rfl ?_
  intro p e s m args below meth c X hr
  refine tw_aload_n X dX6_wouldCost_0 rfl 0 rfl ?_
  refine tw_iload_n X dX6_wouldCost_1 rfl 1 rfl ?_
  refine tw_iload_n X dX6_wouldCost_2 rfl 3 rfl ?_
  refine tw_callVz (As := [.int a1, .int a3]) (st := []) X (tC_isSpan (g := g) a1 a3) tG_isSpan tI_isSpan ⟨Nat.le_of_ble_eq_true rfl, Nat.le_of_ble_eq_true rfl⟩ ⟨Nat.zero_le _, Nat.zero_le _⟩ 0 rfl rfl rfl rfl (Nat.le_of_ble_eq_true rfl) dX6_wouldCost_3 ?_
  intro hb1
  refine tw_if_ne (tgt := 11) X dX6_wouldCost_6 rfl hf (fun q29 hf => ?_) (fun q29 hf => ?_)
  · clear q29
    refine tw_iconst (v := -1) X dX6_wouldCost_9 rfl ?_
    exact tw_iret X hr (prj1 hf) (prj2 hf) dX6_wouldCost_10
  · clear q29
    refine tw_aload_n X dX6_wouldCost_11 rfl 0 rfl ?_
    refine tw_iload_n X dX6_wouldCost_12 rfl 1 rfl ?_
    refine tw_iconst (v := 0) X dX6_wouldCost_13 rfl ?_
    obtain ⟨x2, hx2, hf⟩ := bnd hf
    refine tw_callVi (As := [.int a1, .int (0 : Int32)]) (st := []) X (tC_whyNot hx2) tG_whyNot tI_whyNot ⟨Nat.le_of_ble_eq_true rfl, Nat.le_of_ble_eq_true rfl⟩ ⟨Nat.zero_le _, Nat.zero_le _⟩ 0 rfl rfl rfl rfl (Nat.le_of_ble_eq_true rfl) dX6_wouldCost_14 ?_
    refine tw_istore (lv' := [(4, .int x2), (0, .ref o), (1, .int a1), (2, .int a2), (3, .int a3)]) X dX6_wouldCost_17 (by decide) rfl ?_
    refine tw_iload X dX6_wouldCost_19 0 rfl ?_
    refine tw_if_eq (tgt := 27) X dX6_wouldCost_21 rfl hf (fun q28 hf => ?_) (fun q28 hf => ?_)
    · clear q28
      refine tw_aload_n X dX6_wouldCost_27 rfl 1 rfl ?_
      obtain ⟨g3, hg3, hf⟩ := bnd hf
      refine tw_callVv (As := []) (st := []) X (tC_puts hg3) tG_puts tI_puts ⟨Nat.le_of_ble_eq_true rfl, Nat.le_of_ble_eq_true rfl⟩ ⟨Nat.zero_le _, Nat.zero_le _⟩ 0 rfl rfl rfl rfl (Nat.le_of_ble_eq_true rfl) dX6_wouldCost_28 ?_
      refine tw_iconst (v := 0) X dX6_wouldCost_31 rfl ?_
      refine tw_istore (lv' := [(5, .int (0 : Int32)), (4, .int x2), (0, .ref o), (1, .int a1), (2, .int a2), (3, .int a3)]) X dX6_wouldCost_32 (by decide) rfl ?_
      refine tw_iconst (v := 0) X dX6_wouldCost_34 rfl ?_
      refine tw_istore (lv' := [(6, .int (0 : Int32)), (5, .int (0 : Int32)), (4, .int x2), (0, .ref o), (1, .int a1), (2, .int a2), (3, .int a3)]) X dX6_wouldCost_35 (by decide) rfl ?_
      refine bj_walk (P := un3 fun j4a j4b j4c => TW p l e (rom 9 208) s m args below meth c (MQ below (QI D vwCl A (tW o ad dI) z.1 z.2) args s 0 0 A) D vwCl A (tW o ad dI) 8 0 0 j4a 129 [(0, .ref o), (4, .int j4b), (5, .int j4c)] []) hf ?_ ?_
      · rintro ⟨j4a, j4b, j4c⟩ hf
        dsimp only [un3] at hf ⊢
        refine tw_aload_n X dX6_wouldCost_129 rfl 0 rfl ?_
        obtain ⟨g6, hg6, hf⟩ := bnd hf
        refine tw_callVv (As := []) (st := []) X (tC_putsBack hg6) tG_putsBack tI_putsBack ⟨Nat.le_of_ble_eq_true rfl, Nat.le_of_ble_eq_true rfl⟩ ⟨Nat.zero_le _, Nat.zero_le _⟩ 0 rfl rfl rfl rfl (Nat.le_of_ble_eq_true rfl) dX6_wouldCost_130 ?_
        refine tw_iload X dX6_wouldCost_133 1 rfl ?_
        refine tw_if_eq (tgt := 143) X dX6_wouldCost_135 rfl hf (fun q7 hf => ?_) (fun q7 hf => ?_)
        · clear q7
          refine tw_iload X dX6_wouldCost_143 2 rfl ?_
          exact tw_iret X hr (prj1 hf) (prj2 hf) dX6_wouldCost_145
        · clear q7
          refine tw_iload X dX6_wouldCost_138 1 rfl ?_
          refine tw_goto (tgt := 145) X dX6_wouldCost_140 rfl ?_
          exact tw_iret X hr (prj1 hf) (prj2 hf) dX6_wouldCost_145
      · intro zz27 hf hk5
        refine tw_sub [3, 4, 5, 6, 2, 1, 0] (lv' := [(0, .ref o), (1, .int a1), (2, .int a2), (3, .int a3), (4, .int x2), (5, .int (0 : Int32)), (6, .int (0 : Int32))]) rfl ?_
        refine it_walk (P := un4 fun s8a s8b s8c s8d => TW p l e (rom 9 208) s m args below meth c (MQ below (QI D vwCl A (tW o ad dI) z.1 z.2) args s 0 0 A) D vwCl A (tW o ad dI) 8 0 0 s8a 37 [(0, .ref o), (1, .int a1), (2, .int a2), (3, .int a3), (4, .int s8b), (5, .int s8c), (6, .int s8d)] []) hf ?_
        rintro ⟨s8a, s8b, s8c, s8d⟩ zz26 hf hl9
        dsimp only [un4] at hf ⊢
        refine tw_iload X dX6_wouldCost_37 6 rfl ?_
        refine tw_iload_n X dX6_wouldCost_39 rfl 3 rfl ?_
        refine tw_icmp_ge (tgt := 129) X dX6_wouldCost_40 rfl hf (fun q25 hf => ?_) (fun q25 hf => ?_)
        · clear q25
          have hf10 := leafR hf hl9
          refine tw_sub [0, 4, 5] (lv' := [(0, .ref o), (4, .int s8b), (5, .int s8c)]) rfl ?_
          have hL := hk5 _ hf10
          exact hL
        · clear q25
          refine tw_iload X dX6_wouldCost_43 4 rfl ?_
          refine tw_if_ne (tgt := 129) X dX6_wouldCost_45 rfl hf (fun q24 hf => ?_) (fun q24 hf => ?_)
          · clear q24
            refine tw_aload_n X dX6_wouldCost_48 rfl 0 rfl ?_
            refine tw_iload_n X dX6_wouldCost_49 rfl 1 rfl ?_
            refine tw_iload_n X dX6_wouldCost_50 rfl 2 rfl ?_
            refine tw_i2l X dX6_wouldCost_51 ?_
            refine tw_iload X dX6_wouldCost_52 6 rfl ?_
            refine tw_i2l X dX6_wouldCost_54 ?_
            refine tw_ladd X dX6_wouldCost_55 ?_
            obtain ⟨x11, hx11, hf⟩ := bnd hf
            refine tw_callVz (As := [.int a1, .long ((a2).toInt64 + (s8d).toInt64)]) (st := []) X (tC_isItem hx11) tG_isItem tI_isItem ⟨Nat.le_of_ble_eq_true rfl, Nat.le_of_ble_eq_true rfl⟩ ⟨Nat.zero_le _, Nat.zero_le _⟩ 0 rfl rfl rfl rfl (Nat.le_of_ble_eq_true rfl) dX6_wouldCost_56 ?_
            intro hb12
            refine tw_istore (lv' := [(7, .int x11), (0, .ref o), (1, .int a1), (2, .int a2), (3, .int a3), (4, .int s8b), (5, .int s8c), (6, .int s8d)]) X dX6_wouldCost_59 (by decide) rfl ?_
            refine tw_iload X dX6_wouldCost_61 0 rfl ?_
            refine bj_walk (P := un2 fun j13a j13b => TW p l e (rom 9 208) s m args below meth c (MQ below (QI D vwCl A (tW o ad dI) z.1 z.2) args s 0 0 A) D vwCl A (tW o ad dI) 8 0 0 j13a 89 [(0, .ref o), (1, .int a1), (2, .int a2), (3, .int a3), (5, .int s8c), (6, .int s8d)] [.int j13b]) hf ?_ ?_
            · rintro ⟨j13a, j13b⟩ hf
              dsimp only [un2] at hf ⊢
              refine tw_istore (lv' := [(4, .int j13b), (0, .ref o), (1, .int a1), (2, .int a2), (3, .int a3), (5, .int s8c), (6, .int s8d)]) X dX6_wouldCost_89 (by decide) rfl ?_
              refine tw_iload X dX6_wouldCost_91 0 rfl ?_
              refine tw_if_ne (tgt := 123) X dX6_wouldCost_93 rfl hf (fun q17 hf => ?_) (fun q17 hf => ?_)
              · clear q17
                refine tw_aload_n X dX6_wouldCost_96 rfl 1 rfl ?_
                refine tw_aload_n X dX6_wouldCost_97 rfl 1 rfl ?_
                refine tg_items X  dX6_wouldCost_98 ?_
                refine tw_bipush (v := 40) X dX6_wouldCost_101 rfl ?_
                refine tw_iload_n X dX6_wouldCost_103 rfl 2 rfl ?_
                refine tw_imul X dX6_wouldCost_104 ?_
                refine tw_iload_n X dX6_wouldCost_105 rfl 3 rfl ?_
                refine tw_iadd X dX6_wouldCost_106 ?_
                refine tw_iload X dX6_wouldCost_107 6 rfl ?_
                refine tw_iadd X dX6_wouldCost_109 ?_
                obtain ⟨x15, hx15, hf⟩ := bnd hf
                refine ta_items X hx15 dX6_wouldCost_110 ?_
                obtain ⟨g16, hg16, hf⟩ := bnd hf
                refine tw_callVv (As := [.int x15]) (st := []) X (tC_does hg16) tG_does tI_does ⟨Nat.le_of_ble_eq_true rfl, Nat.le_of_ble_eq_true rfl⟩ ⟨Nat.zero_le _, Nat.zero_le _⟩ 0 rfl rfl rfl rfl (Nat.le_of_ble_eq_true rfl) dX6_wouldCost_111 ?_
                refine tw_iload X dX6_wouldCost_114 5 rfl ?_
                refine tw_aload_n X dX6_wouldCost_116 rfl 1 rfl ?_
                refine tg_paid X  dX6_wouldCost_117 ?_
                refine tw_iadd X dX6_wouldCost_120 ?_
                refine tw_istore (lv' := [(5, .int (s8c + (g16 0 7))), (4, .int j13b), (0, .ref o), (1, .int a1), (2, .int a2), (3, .int a3), (6, .int s8d)]) X dX6_wouldCost_121 (by decide) rfl ?_
                refine tw_iinc (q := 6) (v := (s8d + (1 : Int32))) (lv' := [(6, .int (s8d + (1 : Int32))), (5, .int (s8c + (g16 0 7))), (4, .int j13b), (0, .ref o), (1, .int a1), (2, .int a2), (3, .int a3)]) X dX6_wouldCost_123 rfl rfl (by decide) rfl ?_
                refine tw_goto (tgt := 37) X dX6_wouldCost_126 rfl ?_
                refine tw_sub [3, 4, 5, 6, 2, 1, 0] (lv' := [(0, .ref o), (1, .int a1), (2, .int a2), (3, .int a3), (4, .int j13b), (5, .int (s8c + (g16 0 7))), (6, .int (s8d + (1 : Int32)))]) rfl ?_
                have hL := leafL hf hl9
                exact hL
              · clear q17
                refine tw_iinc (q := 6) (v := (s8d + (1 : Int32))) (lv' := [(6, .int (s8d + (1 : Int32))), (4, .int j13b), (0, .ref o), (1, .int a1), (2, .int a2), (3, .int a3), (5, .int s8c)]) X dX6_wouldCost_123 rfl rfl (by decide) rfl ?_
                refine tw_goto (tgt := 37) X dX6_wouldCost_126 rfl ?_
                refine tw_sub [2, 3, 4, 5, 1, 6, 0] (lv' := [(0, .ref o), (1, .int a1), (2, .int a2), (3, .int a3), (4, .int j13b), (5, .int s8c), (6, .int (s8d + (1 : Int32)))]) rfl ?_
                have hL := leafL hf hl9
                exact hL
            · intro zz22 hf hk14
              refine tw_if_ne (tgt := 71) X dX6_wouldCost_63 rfl hf (fun q21 hf => ?_) (fun q21 hf => ?_)
              · clear q21
                refine tw_bipush (v := -12) X dX6_wouldCost_66 rfl ?_
                refine tw_goto (tgt := 89) X dX6_wouldCost_68 rfl ?_
                refine tw_sub [1, 2, 3, 4, 6, 7] (lv' := [(0, .ref o), (1, .int a1), (2, .int a2), (3, .int a3), (5, .int s8c), (6, .int s8d)]) rfl ?_
                have hL := hk14 _ hf
                exact hL
              · clear q21
                refine tw_aload_n X dX6_wouldCost_71 rfl 1 rfl ?_
                refine tw_iload_n X dX6_wouldCost_72 rfl 2 rfl ?_
                refine tw_iload_n X dX6_wouldCost_73 rfl 3 rfl ?_
                refine tw_iload X dX6_wouldCost_74 7 rfl ?_
                refine tw_iadd X dX6_wouldCost_76 ?_
                obtain ⟨⟨y18a, y18b⟩, hy18, hf⟩ := bnd hf
                dsimp only [un2] at hf
                refine tw_callVz (As := [.int a1, .int (a2 + s8d)]) (st := []) X (tC_isOnTurn hy18) tG_isOnTurn tI_isOnTurn ⟨Nat.le_of_ble_eq_true rfl, Nat.le_of_ble_eq_true rfl⟩ ⟨Nat.zero_le _, Nat.zero_le _⟩ 0 rfl rfl rfl rfl (Nat.le_of_ble_eq_true rfl) dX6_wouldCost_77 ?_
                intro hb19
                refine tw_if_ne (tgt := 88) X dX6_wouldCost_80 rfl hf (fun q20 hf => ?_) (fun q20 hf => ?_)
                · clear q20
                  refine tw_bipush (v := -4) X dX6_wouldCost_83 rfl ?_
                  refine tw_goto (tgt := 89) X dX6_wouldCost_85 rfl ?_
                  refine tw_sub [1, 2, 3, 4, 6, 7] (lv' := [(0, .ref o), (1, .int a1), (2, .int a2), (3, .int a3), (5, .int s8c), (6, .int s8d)]) rfl ?_
                  have hL := hk14 _ hf
                  exact hL
                · clear q20
                  refine tw_iconst (v := 0) X dX6_wouldCost_88 rfl ?_
                  refine tw_sub [1, 2, 3, 4, 6, 7] (lv' := [(0, .ref o), (1, .int a1), (2, .int a2), (3, .int a3), (5, .int s8c), (6, .int s8d)]) rfl ?_
                  have hL := hk14 _ hf
                  exact hL
          · clear q24
            have hf23 := leafR hf hl9
            refine tw_sub [0, 4, 5] (lv' := [(0, .ref o), (4, .int s8b), (5, .int s8c)]) rfl ?_
            have hL := hk5 _ hf23
            exact hL
    · clear q28
      refine tw_iload X dX6_wouldCost_24 0 rfl ?_
      exact tw_iret X hr (prj1 hf) (prj2 hf) dX6_wouldCost_26
noncomputable def tF_personOf (g : St) (a1 : Int32) (a2 : Int32) : Option (Int32 × St) :=
  (tF_isPerson g a1).bind fun x1 =>
  if x1 = 0 then
    some ((-1 : Int32), g)
  else
    if (tF_in (a2).toInt64 (0 : Int64) (6 : Int64)) = 0 then
      some ((-1 : Int32), g)
    else
      if a2 = (4 : Int32) then
        (tF_asked g a1).bind (un2 fun y4a y4b =>
        some (y4a, y4b))
      else
        if a2 = (5 : Int32) then
          (tF_isWhole g a1).bind fun x5 =>
          if x5 = 0 then
            some ((0 : Int32), g)
          else
            some ((1 : Int32), g)
        else
          Option.bind (α := Int32) (β := Int32 × St)
            (if a2 = (6 : Int32) then
              some (4 : Int32)
            else
              some a2)
            (fun j8 => (tF_its g a1 j8).bind fun x10 =>
            some (x10, g))
set_option maxHeartbeats 4000000 in
theorem tC_personOf {l : Launch} {D : va_G} {A : Nat → Prop} {o : Nat} {ad : Nat → Nat} {dI : ClassId} {g : St} {a1 : Int32} {a2 : Int32} {z : Int32 × St} (hf : tF_personOf g a1 a2 = some z) : Ct l yX6_personOf cX6_personOf 3 (some .int) 7 162 D vwCl [(dI, .int)] A (tW o ad dI) [.ref o, .int a1, .int a2] g (QI D vwCl A (tW o ad dI) z.1 z.2) := by
  unfold tF_personOf at hf
  refine ct_intro (own := RX6) (lv0 := [(0, .ref o), (1, .int a1), (2, .int a2)]) (by decide) rfl (Nat.le_of_ble_eq_true rfl) rfl ?_
  intro p e s m args below meth c X hr
  refine tw_aload_n X dX6_personOf_0 rfl 0 rfl ?_
  refine tw_iload_n X dX6_personOf_1 rfl 1 rfl ?_
  obtain ⟨x1, hx1, hf⟩ := bnd hf
  refine tw_callVz (As := [.int a1]) (st := []) X (tC_isPerson hx1) tG_isPerson tI_isPerson ⟨Nat.le_of_ble_eq_true rfl, Nat.le_of_ble_eq_true rfl⟩ ⟨Nat.zero_le _, Nat.zero_le _⟩ 0 rfl rfl rfl rfl (Nat.le_of_ble_eq_true rfl) dX6_personOf_2 ?_
  intro hb2
  refine tw_if_eq (tgt := 20) X dX6_personOf_5 rfl hf (fun q16 hf => ?_) (fun q16 hf => ?_)
  · clear q16
    refine tw_iconst (v := -1) X dX6_personOf_20 rfl ?_
    exact tw_iret X hr (prj1 hf) (prj2 hf) dX6_personOf_21
  · clear q16
    refine tw_iload_n X dX6_personOf_8 rfl 2 rfl ?_
    refine tw_i2l X dX6_personOf_9 ?_
    refine tw_lconst (v := 0) X dX6_personOf_10 rfl ?_
    refine tw_ldc2 (v := 6) X q1677 dX6_personOf_11 ?_
    refine tw_callSz (As := [.long (a2).toInt64, .long (0 : Int64), .long (6 : Int64)]) (st := []) X (tC_in (g := g) (a2).toInt64 (0 : Int64) (6 : Int64)) tG_in tI_in ⟨Nat.le_of_ble_eq_true rfl, Nat.le_of_ble_eq_true rfl⟩ ⟨Nat.zero_le _, Nat.zero_le _⟩ rfl rfl (Nat.le_of_ble_eq_true rfl) dX6_personOf_14 ?_
    intro hb3
    refine tw_if_ne (tgt := 22) X dX6_personOf_17 rfl hf (fun q15 hf => ?_) (fun q15 hf => ?_)
    · clear q15
      refine tw_iconst (v := -1) X dX6_personOf_20 rfl ?_
      exact tw_iret X hr (prj1 hf) (prj2 hf) dX6_personOf_21
    · clear q15
      refine tw_iload_n X dX6_personOf_22 rfl 2 rfl ?_
      refine tw_iconst (v := 4) X dX6_personOf_23 rfl ?_
      refine tw_icmp_ne (tgt := 35) X dX6_personOf_24 rfl hf (fun q14 hf => ?_) (fun q14 hf => ?_)
      · clear q14
        refine tw_aload_n X dX6_personOf_27 rfl 0 rfl ?_
        refine tw_iload_n X dX6_personOf_28 rfl 1 rfl ?_
        obtain ⟨⟨y4a, y4b⟩, hy4, hf⟩ := bnd hf
        dsimp only [un2] at hf
        refine tw_callVi (As := [.int a1]) (st := []) X (tC_asked hy4) tG_asked tI_asked ⟨Nat.le_of_ble_eq_true rfl, Nat.le_of_ble_eq_true rfl⟩ ⟨Nat.zero_le _, Nat.zero_le _⟩ 0 rfl rfl rfl rfl (Nat.le_of_ble_eq_true rfl) dX6_personOf_29 ?_
        refine tw_goto (tgt := 72) X dX6_personOf_32 rfl ?_
        exact tw_iret X hr (prj1 hf) (prj2 hf) dX6_personOf_72
      · clear q14
        refine tw_iload_n X dX6_personOf_35 rfl 2 rfl ?_
        refine tw_iconst (v := 5) X dX6_personOf_36 rfl ?_
        refine tw_icmp_ne (tgt := 56) X dX6_personOf_37 rfl hf (fun q13 hf => ?_) (fun q13 hf => ?_)
        · clear q13
          refine tw_aload_n X dX6_personOf_40 rfl 0 rfl ?_
          refine tw_iload_n X dX6_personOf_41 rfl 1 rfl ?_
          obtain ⟨x5, hx5, hf⟩ := bnd hf
          refine tw_callVz (As := [.int a1]) (st := []) X (tC_isWhole hx5) tG_isWhole tI_isWhole ⟨Nat.le_of_ble_eq_true rfl, Nat.le_of_ble_eq_true rfl⟩ ⟨Nat.zero_le _, Nat.zero_le _⟩ 0 rfl rfl rfl rfl (Nat.le_of_ble_eq_true rfl) dX6_personOf_42 ?_
          intro hb6
          refine tw_if_eq (tgt := 52) X dX6_personOf_45 rfl hf (fun q7 hf => ?_) (fun q7 hf => ?_)
          · clear q7
            refine tw_iconst (v := 0) X dX6_personOf_52 rfl ?_
            refine tw_goto (tgt := 72) X dX6_personOf_53 rfl ?_
            exact tw_iret X hr (prj1 hf) (prj2 hf) dX6_personOf_72
          · clear q7
            refine tw_iconst (v := 1) X dX6_personOf_48 rfl ?_
            refine tw_goto (tgt := 72) X dX6_personOf_49 rfl ?_
            exact tw_iret X hr (prj1 hf) (prj2 hf) dX6_personOf_72
        · clear q13
          refine tw_aload_n X dX6_personOf_56 rfl 0 rfl ?_
          refine tw_iload_n X dX6_personOf_57 rfl 1 rfl ?_
          refine tw_iload_n X dX6_personOf_58 rfl 2 rfl ?_
          refine tw_bipush (v := 6) X dX6_personOf_59 rfl ?_
          refine bj_walk (P := fun j8 : Int32 => TW p l e (rom 7 162) s m args below meth c (MQ below (QI D vwCl A (tW o ad dI) z.1 z.2) args s 0 0 A) D vwCl A (tW o ad dI) 3 0 0 g 69 [] [.int j8, .int a1, .ref o]) hf ?_ ?_
          · intro j8 hf
            obtain ⟨x10, hx10, hf⟩ := bnd hf
            refine tw_callVi (As := [.int a1, .int j8]) (st := []) X (tC_its hx10) tG_its tI_its ⟨Nat.le_of_ble_eq_true rfl, Nat.le_of_ble_eq_true rfl⟩ ⟨Nat.zero_le _, Nat.zero_le _⟩ 0 rfl rfl rfl rfl (Nat.le_of_ble_eq_true rfl) dX6_personOf_69 ?_
            exact tw_iret X hr (prj1 hf) (prj2 hf) dX6_personOf_72
          · intro zz12 hf hk9
            refine tw_icmp_ne (tgt := 68) X dX6_personOf_61 rfl hf (fun q11 hf => ?_) (fun q11 hf => ?_)
            · clear q11
              refine tw_iconst (v := 4) X dX6_personOf_64 rfl ?_
              refine tw_goto (tgt := 69) X dX6_personOf_65 rfl ?_
              refine tw_sub [] (lv' := []) rfl ?_
              have hL := hk9 _ hf
              exact hL
            · clear q11
              refine tw_iload_n X dX6_personOf_68 rfl 2 rfl ?_
              refine tw_sub [] (lv' := []) rfl ?_
              have hL := hk9 _ hf
              exact hL
noncomputable def tF_nextChange (g : St) (a1 : Int32) : Option (Int32 × St) :=
  (rd (g 1) 340 (0 : Int32)).bind fun x1 =>
  iter (L := St × Int32) (T := Int32 × St) (un2 fun s2a s2b => 
    if ((10 : Int32) * x1) ≤ a1 then
      some (.inr ((-1 : Int32), s2a))
    else
      if ((10 : Int32) * x1) ≤ s2b then
        some (.inr ((-1 : Int32), s2a))
      else
        (tF_isNumber s2a s2b).bind fun x6 =>
        if x6 = 0 then
          some (.inl (s2a, (s2b + (1 : Int32))))
        else
          (tF_canBe s2a s2b).bind (un2 fun y8a y8b =>
          if y8a = 0 then
            some (.inl (y8b, (s2b + (1 : Int32))))
          else
            some (.inr (s2b, y8b)))) (g, (a1 + (1 : Int32)))
set_option maxHeartbeats 4000000 in
theorem tC_nextChange {l : Launch} {D : va_G} {A : Nat → Prop} {o : Nat} {ad : Nat → Nat} {dI : ClassId} {g : St} {a1 : Int32} {z : Int32 × St} (hf : tF_nextChange g a1 = some z) : Ct l yX6_nextChange cX6_nextChange 4 (some .int) 8 185 D vwCl [(dI, .int)] A (tW o ad dI) [.ref o, .int a1] g (QI D vwCl A (tW o ad dI) z.1 z.2) := by
  unfold tF_nextChange at hf
  refine ct_intro (own := RX6) (lv0 := [(0, .ref o), (1, .int a1)]) (by decide) rfl (Nat.le_of_ble_eq_true rfl) rfl ?_
  intro p e s m args below meth c X hr
  refine tw_bipush (v := 10) X dX6_nextChange_0 rfl ?_
  refine tw_aload_n X dX6_nextChange_2 rfl 0 rfl ?_
  refine tg_s X  dX6_nextChange_3 ?_
  refine tw_iconst (v := 0) X dX6_nextChange_6 rfl ?_
  obtain ⟨x1, hx1, hf⟩ := bnd hf
  refine ta_s X hx1 dX6_nextChange_7 ?_
  refine tw_imul X dX6_nextChange_8 ?_
  refine tw_istore_n (lv' := [(2, .int ((10 : Int32) * x1)), (0, .ref o), (1, .int a1)]) X dX6_nextChange_9 rfl (by decide) rfl ?_
  refine tw_iload_n X dX6_nextChange_10 rfl 2 rfl ?_
  refine tw_iconst (v := 1) X dX6_nextChange_11 rfl ?_
  refine tw_iadd X dX6_nextChange_12 ?_
  refine tw_istore_n (lv' := [(3, .int (a1 + (1 : Int32))), (2, .int ((10 : Int32) * x1)), (0, .ref o), (1, .int a1)]) X dX6_nextChange_13 rfl (by decide) rfl ?_
  refine tw_sub [2, 3, 1, 0] (lv' := [(0, .ref o), (1, .int a1), (2, .int ((10 : Int32) * x1)), (3, .int (a1 + (1 : Int32)))]) rfl ?_
  refine it_walk (P := un2 fun s2a s2b => TW p l e (rom 8 185) s m args below meth c (MQ below (QI D vwCl A (tW o ad dI) z.1 z.2) args s 0 0 A) D vwCl A (tW o ad dI) 4 0 0 s2a 14 [(0, .ref o), (1, .int a1), (2, .int ((10 : Int32) * x1)), (3, .int s2b)] []) hf ?_
  rintro ⟨s2a, s2b⟩ zz15 hf hl3
  dsimp only [un2] at hf ⊢
  refine tw_iload_n X dX6_nextChange_14 rfl 1 rfl ?_
  refine tw_iload_n X dX6_nextChange_15 rfl 2 rfl ?_
  refine tw_icmp_ge (tgt := 48) X dX6_nextChange_16 rfl hf (fun q14 hf => ?_) (fun q14 hf => ?_)
  · clear q14
    refine tw_iconst (v := -1) X dX6_nextChange_48 rfl ?_
    have hf4 := leafR hf hl3
    exact tw_iret X hr (prj1 hf4) (prj2 hf4) dX6_nextChange_49
  · clear q14
    refine tw_iload_n X dX6_nextChange_19 rfl 3 rfl ?_
    refine tw_iload_n X dX6_nextChange_20 rfl 2 rfl ?_
    refine tw_icmp_ge (tgt := 48) X dX6_nextChange_21 rfl hf (fun q13 hf => ?_) (fun q13 hf => ?_)
    · clear q13
      refine tw_iconst (v := -1) X dX6_nextChange_48 rfl ?_
      have hf5 := leafR hf hl3
      exact tw_iret X hr (prj1 hf5) (prj2 hf5) dX6_nextChange_49
    · clear q13
      refine tw_aload_n X dX6_nextChange_24 rfl 0 rfl ?_
      refine tw_iload_n X dX6_nextChange_25 rfl 3 rfl ?_
      obtain ⟨x6, hx6, hf⟩ := bnd hf
      refine tw_callVz (As := [.int s2b]) (st := []) X (tC_isNumber hx6) tG_isNumber tI_isNumber ⟨Nat.le_of_ble_eq_true rfl, Nat.le_of_ble_eq_true rfl⟩ ⟨Nat.zero_le _, Nat.zero_le _⟩ 0 rfl rfl rfl rfl (Nat.le_of_ble_eq_true rfl) dX6_nextChange_26 ?_
      intro hb7
      refine tw_if_eq (tgt := 42) X dX6_nextChange_29 rfl hf (fun q12 hf => ?_) (fun q12 hf => ?_)
      · clear q12
        refine tw_iinc (q := 3) (v := (s2b + (1 : Int32))) (lv' := [(3, .int (s2b + (1 : Int32))), (0, .ref o), (1, .int a1), (2, .int ((10 : Int32) * x1))]) X dX6_nextChange_42 rfl rfl (by decide) rfl ?_
        refine tw_goto (tgt := 14) X dX6_nextChange_45 rfl ?_
        refine tw_sub [1, 2, 3, 0] (lv' := [(0, .ref o), (1, .int a1), (2, .int ((10 : Int32) * x1)), (3, .int (s2b + (1 : Int32)))]) rfl ?_
        have hL := leafL hf hl3
        exact hL
      · clear q12
        refine tw_aload_n X dX6_nextChange_32 rfl 0 rfl ?_
        refine tw_iload_n X dX6_nextChange_33 rfl 3 rfl ?_
        obtain ⟨⟨y8a, y8b⟩, hy8, hf⟩ := bnd hf
        dsimp only [un2] at hf
        refine tw_callVz (As := [.int s2b]) (st := []) X (tC_canBe hy8) tG_canBe tI_canBe ⟨Nat.le_of_ble_eq_true rfl, Nat.le_of_ble_eq_true rfl⟩ ⟨Nat.zero_le _, Nat.zero_le _⟩ 0 rfl rfl rfl rfl (Nat.le_of_ble_eq_true rfl) dX6_nextChange_34 ?_
        intro hb9
        refine tw_if_eq (tgt := 42) X dX6_nextChange_37 rfl hf (fun q11 hf => ?_) (fun q11 hf => ?_)
        · clear q11
          refine tw_iinc (q := 3) (v := (s2b + (1 : Int32))) (lv' := [(3, .int (s2b + (1 : Int32))), (0, .ref o), (1, .int a1), (2, .int ((10 : Int32) * x1))]) X dX6_nextChange_42 rfl rfl (by decide) rfl ?_
          refine tw_goto (tgt := 14) X dX6_nextChange_45 rfl ?_
          refine tw_sub [1, 2, 3, 0] (lv' := [(0, .ref o), (1, .int a1), (2, .int ((10 : Int32) * x1)), (3, .int (s2b + (1 : Int32)))]) rfl ?_
          have hL := leafL hf hl3
          exact hL
        · clear q11
          refine tw_iload_n X dX6_nextChange_40 rfl 3 rfl ?_
          have hf10 := leafR hf hl3
          exact tw_iret X hr (prj1 hf10) (prj2 hf10) dX6_nextChange_41
noncomputable def tF_makes (g : St) (a1 : Int32) : Option (St) :=
  (tF_does g a1).bind fun g1 =>
  (rd (g1 1) 340 (4 : Int32)).bind fun x2 =>
  Option.bind (α := St) (β := St)
    (if x2 = (12 : Int32) then
      Option.bind (α := St) (β := St)
        (iter (L := St × Int32) (T := St) (un2 fun s23a s23b => 
          if (103 : Int32) ≤ s23b then
            some (.inr s23a)
          else
            (rd (s23a 1) 340 (s23b + (3 : Int32))).bind fun x26 =>
            (wr s23a 1 340 s23b x26).bind fun g27 =>
            some (.inl (g27, (s23b + (1 : Int32))))) (g1, (70 : Int32)))
        (fun j19 => (rd (j19 1) 340 (4 : Int32)).bind fun x21 =>
        (wr j19 1 340 (4 : Int32) (x21 - (1 : Int32))).bind fun g22 =>
        some g22)
    else
      some g1)
    (fun j3 => (rd (j3 1) 340 (4 : Int32)).bind fun x5 =>
    (rm a1 (10 : Int32)).bind fun x6 =>
    (wr j3 1 340 ((70 : Int32) + ((3 : Int32) * x5)) a1).bind fun g7 =>
    (dv a1 (10 : Int32)).bind fun x8 =>
    (tF_its g7 x8 (1 : Int32)).bind fun x9 =>
    (wr g7 1 340 (((70 : Int32) + ((3 : Int32) * x5)) + (1 : Int32)) x9).bind fun g10 =>
    Option.bind (α := Int32) (β := St)
      (if x6 = (9 : Int32) then
        some (g10 0 6)
      else
        (tF_its g10 x6 (1 : Int32)).bind fun x16 =>
        some x16)
      (fun j11 => (wr g10 1 340 (((70 : Int32) + ((3 : Int32) * x5)) + (2 : Int32)) j11).bind fun g13 =>
      (rd (g13 1) 340 (4 : Int32)).bind fun x14 =>
      (wr g13 1 340 (4 : Int32) (x14 + (1 : Int32))).bind fun g15 =>
      some g15))
set_option maxHeartbeats 4000000 in
theorem tC_makes {l : Launch} {D : va_G} {A : Nat → Prop} {o : Nat} {ad : Nat → Nat} {dI : ClassId} {g : St} {a1 : Int32} {z : St} (hf : tF_makes g a1 = some z) : Ct l yX6_makes cX6_makes 4 none 8 185 D vwCl [(dI, .int)] A (tW o ad dI) [.ref o, .int a1] g (QV D vwCl A (tW o ad dI) z) := by
  unfold tF_makes at hf
  refine ct_intro (own := RX6) (lv0 := [(0, .ref o), (1, .int a1)]) (by decide) rfl (Nat.le_of_ble_eq_true rfl) rfl ?_
  intro p e s m args below meth c X hr
  refine tw_aload_n X dX6_makes_0 rfl 0 rfl ?_
  refine tw_iload_n X dX6_makes_1 rfl 1 rfl ?_
  obtain ⟨g1, hg1, hf⟩ := bnd hf
  refine tw_callVv (As := [.int a1]) (st := []) X (tC_does hg1) tG_does tI_does ⟨Nat.le_of_ble_eq_true rfl, Nat.le_of_ble_eq_true rfl⟩ ⟨Nat.zero_le _, Nat.zero_le _⟩ 0 rfl rfl rfl rfl (Nat.le_of_ble_eq_true rfl) dX6_makes_2 ?_
  refine tw_aload_n X dX6_makes_5 rfl 0 rfl ?_
  refine tg_s X  dX6_makes_6 ?_
  refine tw_iconst (v := 4) X dX6_makes_9 rfl ?_
  obtain ⟨x2, hx2, hf⟩ := bnd hf
  refine ta_s X hx2 dX6_makes_10 ?_
  refine tw_bipush (v := 12) X dX6_makes_11 rfl ?_
  refine bj_walk (P := fun j3 : St => TW p l e (rom 8 185) s m args below meth c (MQ below (QV D vwCl A (tW o ad dI) z) args s 0 0 A) D vwCl A (tW o ad dI) 4 0 0 j3 55 [(0, .ref o), (1, .int a1)] []) hf ?_ ?_
  · intro j3 hf
    refine tw_bipush (v := 70) X dX6_makes_55 rfl ?_
    refine tw_iconst (v := 3) X dX6_makes_57 rfl ?_
    refine tw_aload_n X dX6_makes_58 rfl 0 rfl ?_
    refine tg_s X  dX6_makes_59 ?_
    refine tw_iconst (v := 4) X dX6_makes_62 rfl ?_
    obtain ⟨x5, hx5, hf⟩ := bnd hf
    refine ta_s X hx5 dX6_makes_63 ?_
    refine tw_imul X dX6_makes_64 ?_
    refine tw_iadd X dX6_makes_65 ?_
    refine tw_istore_n (lv' := [(2, .int ((70 : Int32) + ((3 : Int32) * x5))), (0, .ref o), (1, .int a1)]) X dX6_makes_66 rfl (by decide) rfl ?_
    refine tw_iload_n X dX6_makes_67 rfl 2 rfl ?_
    refine tw_bipush (v := 10) X dX6_makes_68 rfl ?_
    obtain ⟨x6, hx6, hf⟩ := bnd hf
    refine tw_iremV X dX6_makes_70 hx6 ?_
    refine tw_istore_n (lv' := [(3, .int x6), (2, .int ((70 : Int32) + ((3 : Int32) * x5))), (0, .ref o), (1, .int a1)]) X dX6_makes_71 rfl (by decide) rfl ?_
    refine tw_aload_n X dX6_makes_72 rfl 2 rfl ?_
    refine tg_s X  dX6_makes_73 ?_
    refine tw_iload_n X dX6_makes_76 rfl 1 rfl ?_
    refine tw_iload_n X dX6_makes_77 rfl 3 rfl ?_
    obtain ⟨g7, hg7, hf⟩ := bnd hf
    refine ts_s X hg7 dX6_makes_78 ?_
    refine tw_aload_n X dX6_makes_79 rfl 2 rfl ?_
    refine tg_s X  dX6_makes_80 ?_
    refine tw_iload_n X dX6_makes_83 rfl 1 rfl ?_
    refine tw_iconst (v := 1) X dX6_makes_84 rfl ?_
    refine tw_iadd X dX6_makes_85 ?_
    refine tw_aload_n X dX6_makes_86 rfl 2 rfl ?_
    refine tw_iload_n X dX6_makes_87 rfl 3 rfl ?_
    refine tw_bipush (v := 10) X dX6_makes_88 rfl ?_
    obtain ⟨x8, hx8, hf⟩ := bnd hf
    refine tw_idivV X dX6_makes_90 hx8 ?_
    refine tw_iconst (v := 1) X dX6_makes_91 rfl ?_
    obtain ⟨x9, hx9, hf⟩ := bnd hf
    refine tw_callVi (As := [.int x8, .int (1 : Int32)]) (st := [.int (((70 : Int32) + ((3 : Int32) * x5)) + (1 : Int32)), .ref (ad 0)]) X (tC_its hx9) tG_its tI_its ⟨Nat.le_of_ble_eq_true rfl, Nat.le_of_ble_eq_true rfl⟩ ⟨Nat.zero_le _, Nat.zero_le _⟩ 0 rfl rfl rfl rfl (Nat.le_of_ble_eq_true rfl) dX6_makes_92 ?_
    obtain ⟨g10, hg10, hf⟩ := bnd hf
    refine ts_s X hg10 dX6_makes_95 ?_
    refine tw_aload_n X dX6_makes_96 rfl 2 rfl ?_
    refine tg_s X  dX6_makes_97 ?_
    refine tw_iload_n X dX6_makes_100 rfl 1 rfl ?_
    refine tw_iconst (v := 2) X dX6_makes_101 rfl ?_
    refine tw_iadd X dX6_makes_102 ?_
    refine tw_iload_n X dX6_makes_103 rfl 0 rfl ?_
    refine tw_bipush (v := 9) X dX6_makes_104 rfl ?_
    refine bj_walk (P := fun j11 : Int32 => TW p l e (rom 8 185) s m args below meth c (MQ below (QV D vwCl A (tW o ad dI) z) args s 0 0 A) D vwCl A (tW o ad dI) 4 0 0 g10 122 [(0, .ref o)] [.int j11, .int (((70 : Int32) + ((3 : Int32) * x5)) + (2 : Int32)), .ref (ad 0)]) hf ?_ ?_
    · intro j11 hf
      obtain ⟨g13, hg13, hf⟩ := bnd hf
      refine ts_s X hg13 dX6_makes_122 ?_
      refine tw_aload_n X dX6_makes_123 rfl 0 rfl ?_
      refine tg_s X  dX6_makes_124 ?_
      refine tw_iconst (v := 4) X dX6_makes_127 rfl ?_
      refine tw_dup2_11 X dX6_makes_128 rfl rfl ?_
      obtain ⟨x14, hx14, hf⟩ := bnd hf
      refine ta_s X hx14 dX6_makes_129 ?_
      refine tw_iconst (v := 1) X dX6_makes_130 rfl ?_
      refine tw_iadd X dX6_makes_131 ?_
      obtain ⟨g15, hg15, hf⟩ := bnd hf
      refine ts_s X hg15 dX6_makes_132 ?_
      exact tw_vret X hr (Option.some.inj hf) dX6_makes_133
    · intro zz18 hf hk12
      refine tw_icmp_ne (tgt := 116) X dX6_makes_106 rfl hf (fun q17 hf => ?_) (fun q17 hf => ?_)
      · clear q17
        refine tw_aload_n X dX6_makes_109 rfl 2 rfl ?_
        refine tg_gave X  dX6_makes_110 ?_
        refine tw_goto (tgt := 122) X dX6_makes_113 rfl ?_
        refine tw_sub [2] (lv' := [(0, .ref o)]) rfl ?_
        have hL := hk12 _ hf
        exact hL
      · clear q17
        refine tw_aload_n X dX6_makes_116 rfl 2 rfl ?_
        refine tw_iload_n X dX6_makes_117 rfl 0 rfl ?_
        refine tw_iconst (v := 1) X dX6_makes_118 rfl ?_
        obtain ⟨x16, hx16, hf⟩ := bnd hf
        refine tw_callVi (As := [.int x6, .int (1 : Int32)]) (st := [.int (((70 : Int32) + ((3 : Int32) * x5)) + (2 : Int32)), .ref (ad 0)]) X (tC_its hx16) tG_its tI_its ⟨Nat.le_of_ble_eq_true rfl, Nat.le_of_ble_eq_true rfl⟩ ⟨Nat.zero_le _, Nat.zero_le _⟩ 0 rfl rfl rfl rfl (Nat.le_of_ble_eq_true rfl) dX6_makes_119 ?_
        refine tw_sub [2] (lv' := [(0, .ref o)]) rfl ?_
        have hL := hk12 _ hf
        exact hL
  · intro zz32 hf hk4
    refine tw_icmp_ne (tgt := 55) X dX6_makes_13 rfl hf (fun q31 hf => ?_) (fun q31 hf => ?_)
    · clear q31
      refine tw_bipush (v := 70) X dX6_makes_16 rfl ?_
      refine tw_istore_n (lv' := [(2, .int (70 : Int32)), (0, .ref o), (1, .int a1)]) X dX6_makes_18 rfl (by decide) rfl ?_
      refine bj_walk (P := fun j19 : St => TW p l e (rom 8 185) s m args below meth c (MQ below (QV D vwCl A (tW o ad dI) z) args s 0 0 A) D vwCl A (tW o ad dI) 4 0 0 j19 45 [(0, .ref o), (1, .int a1)] []) hf ?_ ?_
      · intro j19 hf
        refine tw_aload_n X dX6_makes_45 rfl 0 rfl ?_
        refine tg_s X  dX6_makes_46 ?_
        refine tw_iconst (v := 4) X dX6_makes_49 rfl ?_
        refine tw_dup2_11 X dX6_makes_50 rfl rfl ?_
        obtain ⟨x21, hx21, hf⟩ := bnd hf
        refine ta_s X hx21 dX6_makes_51 ?_
        refine tw_iconst (v := 1) X dX6_makes_52 rfl ?_
        refine tw_isub X dX6_makes_53 ?_
        obtain ⟨g22, hg22, hf⟩ := bnd hf
        refine ts_s X hg22 dX6_makes_54 ?_
        have hL := hk4 _ hf
        exact hL
      · intro zz30 hf hk20
        refine tw_sub [1, 2, 0] (lv' := [(0, .ref o), (1, .int a1), (2, .int (70 : Int32))]) rfl ?_
        refine it_walk (P := un2 fun s23a s23b => TW p l e (rom 8 185) s m args below meth c (MQ below (QV D vwCl A (tW o ad dI) z) args s 0 0 A) D vwCl A (tW o ad dI) 4 0 0 s23a 19 [(0, .ref o), (1, .int a1), (2, .int s23b)] []) hf ?_
        rintro ⟨s23a, s23b⟩ zz29 hf hl24
        dsimp only [un2] at hf ⊢
        refine tw_iload_n X dX6_makes_19 rfl 2 rfl ?_
        refine tw_bipush (v := 103) X dX6_makes_20 rfl ?_
        refine tw_icmp_ge (tgt := 45) X dX6_makes_22 rfl hf (fun q28 hf => ?_) (fun q28 hf => ?_)
        · clear q28
          have hf25 := leafR hf hl24
          refine tw_sub [0, 1] (lv' := [(0, .ref o), (1, .int a1)]) rfl ?_
          have hL := hk20 _ hf25
          exact hL
        · clear q28
          refine tw_aload_n X dX6_makes_25 rfl 0 rfl ?_
          refine tg_s X  dX6_makes_26 ?_
          refine tw_iload_n X dX6_makes_29 rfl 2 rfl ?_
          refine tw_aload_n X dX6_makes_30 rfl 0 rfl ?_
          refine tg_s X  dX6_makes_31 ?_
          refine tw_iload_n X dX6_makes_34 rfl 2 rfl ?_
          refine tw_iconst (v := 3) X dX6_makes_35 rfl ?_
          refine tw_iadd X dX6_makes_36 ?_
          obtain ⟨x26, hx26, hf⟩ := bnd hf
          refine ta_s X hx26 dX6_makes_37 ?_
          obtain ⟨g27, hg27, hf⟩ := bnd hf
          refine ts_s X hg27 dX6_makes_38 ?_
          refine tw_iinc (q := 2) (v := (s23b + (1 : Int32))) (lv' := [(2, .int (s23b + (1 : Int32))), (0, .ref o), (1, .int a1)]) X dX6_makes_39 rfl rfl (by decide) rfl ?_
          refine tw_goto (tgt := 19) X dX6_makes_42 rfl ?_
          refine tw_sub [1, 2, 0] (lv' := [(0, .ref o), (1, .int a1), (2, .int (s23b + (1 : Int32)))]) rfl ?_
          have hL := leafL hf hl24
          exact hL
    · clear q31
      have hL := hk4 _ hf
      exact hL
noncomputable def tF_goes : Nat → St → Int32 → Int32 → Int32 → Option (St)
  | 0 => fun _ _ _ _ => none
  | d + 1 => fun g a1 a2 a3 => let rc := tF_goes d
  (tF_wholeSet g).bind fun x1 =>
  (tF_ones x1).bind fun x2 =>
  Option.bind (α := Int32) (β := St)
    (if x2 ≤ (g 0 12) then
      some (g 0 12)
    else
      some x2)
    (fun j3 => (pf g 0 12 j3).bind fun g5 =>
    (tF_thereSet g5).bind fun x6 =>
    if x1 = x6 then
      (tF_keeps g5 a1 a3).bind fun g7 =>
      some g7
    else
      if a1 = a2 then
        some g5
      else
        (tF_nextChange g5 (-1 : Int32)).bind (un2 fun y8a y8b =>
        iter (L := St × Int32) (T := St) (un2 fun s9a s9b => 
          if s9b < 0 then
            some (.inr s9a)
          else
            (tF_does s9a s9b).bind fun g12 =>
            (wr g12 9 6 a1 s9b).bind fun g13 =>
            (rc g13 (a1 + (1 : Int32)) a2 (a3 + (g12 0 7))).bind fun g14 =>
            (tF_undoes g14 s9b (g12 0 6) (g12 0 7)).bind fun g15 =>
            (tF_nextChange g15 s9b).bind (un2 fun y16a y16b =>
            some (.inl (y16b, y16a)))) (y8b, y8a)))
set_option maxHeartbeats 4000000 in
theorem tC_goes {l : Launch} {D : va_G} {A : Nat → Prop} {o : Nat} {ad : Nat → Nat} {dI : ClassId} : ∀ (d : Nat) (g : St) (a1 : Int32) (a2 : Int32) (a3 : Int32) (z : St), tF_goes d g a1 a2 a3 = some z → Ct l yX6_goes cX6_goes 9 none (9 + 1 * d) (208 + 28 * d) D vwCl [(dI, .int)] A (tW o ad dI) [.ref o, .int a1, .int a2, .int a3] g (QV D vwCl A (tW o ad dI) z) := by
  intro d
  induction d with
  | zero =>
    intro g a1 a2 a3 z hf
    cases hf
  | succ d ih =>
    intro g a1 a2 a3 z hf
    rw [tF_goes] at hf
    generalize hrc : tF_goes d = rc at hf ih
    dsimp only at hf
    have hrec := ih
    generalize hF : (9 + 1 * d) = F at hrec
    generalize hLo : (208 + 28 * d) = Lo at hrec
    refine ct_intro (own := RX6) (lv0 := [(0, .ref o), (1, .int a1), (2, .int a2), (3, .int a3)]) (by decide) rfl (Nat.le_of_ble_eq_true rfl) rfl ?_
    intro p e s m args below meth c X hr
    refine tw_aload_n X dX6_goes_0 rfl 0 rfl ?_
    obtain ⟨x1, hx1, hf⟩ := bnd hf
    refine tw_callVi (As := []) (st := []) X (tC_wholeSet hx1) tG_wholeSet tI_wholeSet (rom_le (by omega) (by omega)) ⟨Nat.zero_le _, Nat.zero_le _⟩ 0 rfl rfl rfl rfl (Nat.le_of_ble_eq_true rfl) dX6_goes_1 ?_
    refine tw_istore (lv' := [(4, .int x1), (0, .ref o), (1, .int a1), (2, .int a2), (3, .int a3)]) X dX6_goes_4 (by decide) rfl ?_
    refine tw_iload X dX6_goes_6 0 rfl ?_
    obtain ⟨x2, hx2, hf⟩ := bnd hf
    refine tw_callSi (As := [.int x1]) (st := []) X (tC_ones (g := g) hx2) tG_ones tI_ones (rom_le (by omega) (by omega)) ⟨Nat.zero_le _, Nat.zero_le _⟩ rfl rfl (Nat.le_of_ble_eq_true rfl) dX6_goes_8 ?_
    refine tw_istore (lv' := [(5, .int x2), (4, .int x1), (0, .ref o), (1, .int a1), (2, .int a2), (3, .int a3)]) X dX6_goes_11 (by decide) rfl ?_
    refine tw_aload_n X dX6_goes_13 rfl 2 rfl ?_
    refine tw_iload X dX6_goes_14 0 rfl ?_
    refine tw_aload_n X dX6_goes_16 rfl 2 rfl ?_
    refine tg_mostWhole X  dX6_goes_17 ?_
    refine bj_walk (P := fun j3 : Int32 => TW p l e (rom (9 + 1 * (d + 1)) (208 + 28 * (d + 1))) s m args below meth c (MQ below (QV D vwCl A (tW o ad dI) z) args s 0 0 A) D vwCl A (tW o ad dI) 9 0 0 g 32 [(0, .ref o), (1, .int a1), (2, .int a2), (3, .int a3), (4, .int x1)] [.int j3, .ref o]) hf ?_ ?_
    · intro j3 hf
      obtain ⟨g5, hg5, hf⟩ := bnd hf
      refine tp_mostWhole X hg5 dX6_goes_32 ?_
      refine tw_iload X dX6_goes_35 4 rfl ?_
      refine tw_aload_n X dX6_goes_37 rfl 0 rfl ?_
      obtain ⟨x6, hx6, hf⟩ := bnd hf
      refine tw_callVi (As := []) (st := [.int x1]) X (tC_thereSet hx6) tG_thereSet tI_thereSet (rom_le (by omega) (by omega)) ⟨Nat.zero_le _, Nat.zero_le _⟩ 0 rfl rfl rfl rfl (Nat.le_of_ble_eq_true rfl) dX6_goes_38 ?_
      refine tw_icmp_ne (tgt := 51) X dX6_goes_41 rfl hf (fun q20 hf => ?_) (fun q20 hf => ?_)
      · clear q20
        refine tw_aload_n X dX6_goes_44 rfl 0 rfl ?_
        refine tw_iload_n X dX6_goes_45 rfl 1 rfl ?_
        refine tw_iload_n X dX6_goes_46 rfl 3 rfl ?_
        obtain ⟨g7, hg7, hf⟩ := bnd hf
        refine tw_callVv (As := [.int a1, .int a3]) (st := []) X (tC_keeps hg7) tG_keeps tI_keeps (rom_le (by omega) (by omega)) ⟨Nat.zero_le _, Nat.zero_le _⟩ 0 rfl rfl rfl rfl (Nat.le_of_ble_eq_true rfl) dX6_goes_47 ?_
        exact tw_vret X hr (Option.some.inj hf) dX6_goes_50
      · clear q20
        refine tw_iload_n X dX6_goes_51 rfl 1 rfl ?_
        refine tw_iload_n X dX6_goes_52 rfl 2 rfl ?_
        refine tw_icmp_ne (tgt := 57) X dX6_goes_53 rfl hf (fun q19 hf => ?_) (fun q19 hf => ?_)
        · clear q19
          exact tw_vret X hr (Option.some.inj hf) dX6_goes_56
        · clear q19
          refine tw_aload_n X dX6_goes_57 rfl 0 rfl ?_
          refine tw_iconst (v := -1) X dX6_goes_58 rfl ?_
          obtain ⟨⟨y8a, y8b⟩, hy8, hf⟩ := bnd hf
          dsimp only [un2] at hf
          refine tw_callVi (As := [.int (-1 : Int32)]) (st := []) X (tC_nextChange hy8) tG_nextChange tI_nextChange (rom_le (by omega) (by omega)) ⟨Nat.zero_le _, Nat.zero_le _⟩ 0 rfl rfl rfl rfl (Nat.le_of_ble_eq_true rfl) dX6_goes_59 ?_
          refine tw_istore (lv' := [(6, .int y8a), (0, .ref o), (1, .int a1), (2, .int a2), (3, .int a3), (4, .int x1)]) X dX6_goes_62 (by decide) rfl ?_
          refine tw_sub [1, 2, 3, 4, 0] (lv' := [(0, .ref o), (1, .int a1), (2, .int a2), (3, .int a3), (6, .int y8a)]) rfl ?_
          refine it_walk (P := un2 fun s9a s9b => TW p l e (rom (9 + 1 * (d + 1)) (208 + 28 * (d + 1))) s m args below meth c (MQ below (QV D vwCl A (tW o ad dI) z) args s 0 0 A) D vwCl A (tW o ad dI) 9 0 0 s9a 64 [(0, .ref o), (1, .int a1), (2, .int a2), (3, .int a3), (6, .int s9b)] []) hf ?_
          rintro ⟨s9a, s9b⟩ zz18 hf hl10
          dsimp only [un2] at hf ⊢
          refine tw_iload X dX6_goes_64 4 rfl ?_
          refine tw_if_lt (tgt := 128) X dX6_goes_66 rfl hf (fun q17 hf => ?_) (fun q17 hf => ?_)
          · clear q17
            have hf11 := leafR hf hl10
            exact tw_vret X hr (Option.some.inj hf11) dX6_goes_128
          · clear q17
            refine tw_aload_n X dX6_goes_69 rfl 0 rfl ?_
            refine tw_iload X dX6_goes_70 4 rfl ?_
            obtain ⟨g12, hg12, hf⟩ := bnd hf
            refine tw_callVv (As := [.int s9b]) (st := []) X (tC_does hg12) tG_does tI_does (rom_le (by omega) (by omega)) ⟨Nat.zero_le _, Nat.zero_le _⟩ 0 rfl rfl rfl rfl (Nat.le_of_ble_eq_true rfl) dX6_goes_72 ?_
            refine tw_aload_n X dX6_goes_75 rfl 0 rfl ?_
            refine tg_gave X  dX6_goes_76 ?_
            refine tw_istore (lv' := [(7, .int (g12 0 6)), (0, .ref o), (1, .int a1), (2, .int a2), (3, .int a3), (6, .int s9b)]) X dX6_goes_79 (by decide) rfl ?_
            refine tw_aload_n X dX6_goes_81 rfl 1 rfl ?_
            refine tg_paid X  dX6_goes_82 ?_
            refine tw_istore (lv' := [(8, .int (g12 0 7)), (7, .int (g12 0 6)), (0, .ref o), (1, .int a1), (2, .int a2), (3, .int a3), (6, .int s9b)]) X dX6_goes_85 (by decide) rfl ?_
            refine tw_aload_n X dX6_goes_87 rfl 2 rfl ?_
            refine tg_row X  dX6_goes_88 ?_
            refine tw_iload_n X dX6_goes_91 rfl 3 rfl ?_
            refine tw_iload X dX6_goes_92 6 rfl ?_
            obtain ⟨g13, hg13, hf⟩ := bnd hf
            refine ts_row X hg13 dX6_goes_94 ?_
            refine tw_aload_n X dX6_goes_95 rfl 2 rfl ?_
            refine tw_iload_n X dX6_goes_96 rfl 3 rfl ?_
            refine tw_iconst (v := 1) X dX6_goes_97 rfl ?_
            refine tw_iadd X dX6_goes_98 ?_
            refine tw_iload_n X dX6_goes_99 rfl 4 rfl ?_
            refine tw_iload_n X dX6_goes_100 rfl 5 rfl ?_
            refine tw_iload X dX6_goes_101 0 rfl ?_
            refine tw_iadd X dX6_goes_103 ?_
            obtain ⟨g14, hg14, hf⟩ := bnd hf
            refine tw_callVv (As := [.int (a1 + (1 : Int32)), .int a2, .int (a3 + (g12 0 7))]) (st := []) X (hrec _ _ _ _ _ hg14) tG_goes tI_goes (rom_le (by omega) (by omega)) ⟨Nat.zero_le _, Nat.zero_le _⟩ 0 rfl rfl rfl rfl (Nat.le_of_ble_eq_true rfl) dX6_goes_104 ?_
            refine tw_aload_n X dX6_goes_107 rfl 2 rfl ?_
            refine tw_iload X dX6_goes_108 6 rfl ?_
            refine tw_iload X dX6_goes_110 1 rfl ?_
            refine tw_iload X dX6_goes_112 0 rfl ?_
            obtain ⟨g15, hg15, hf⟩ := bnd hf
            refine tw_callVv (As := [.int s9b, .int (g12 0 6), .int (g12 0 7)]) (st := []) X (tC_undoes hg15) tG_undoes tI_undoes (rom_le (by omega) (by omega)) ⟨Nat.zero_le _, Nat.zero_le _⟩ 0 rfl rfl rfl rfl (Nat.le_of_ble_eq_true rfl) dX6_goes_114 ?_
            refine tw_aload_n X dX6_goes_117 rfl 2 rfl ?_
            refine tw_iload X dX6_goes_118 6 rfl ?_
            obtain ⟨⟨y16a, y16b⟩, hy16, hf⟩ := bnd hf
            dsimp only [un2] at hf
            refine tw_callVi (As := [.int s9b]) (st := []) X (tC_nextChange hy16) tG_nextChange tI_nextChange (rom_le (by omega) (by omega)) ⟨Nat.zero_le _, Nat.zero_le _⟩ 0 rfl rfl rfl rfl (Nat.le_of_ble_eq_true rfl) dX6_goes_120 ?_
            refine tw_istore (lv' := [(6, .int y16a), (8, .int (g12 0 7)), (7, .int (g12 0 6)), (0, .ref o), (1, .int a1), (2, .int a2), (3, .int a3)]) X dX6_goes_123 (by decide) rfl ?_
            refine tw_goto (tgt := 64) X dX6_goes_125 rfl ?_
            refine tw_sub [3, 4, 5, 6, 0] (lv' := [(0, .ref o), (1, .int a1), (2, .int a2), (3, .int a3), (6, .int y16a)]) rfl ?_
            have hL := leafL hf hl10
            exact hL
    · intro zz22 hf hk4
      refine tw_icmp_le (tgt := 28) X dX6_goes_20 rfl hf (fun q21 hf => ?_) (fun q21 hf => ?_)
      · clear q21
        refine tw_aload_n X dX6_goes_28 rfl 2 rfl ?_
        refine tg_mostWhole X  dX6_goes_29 ?_
        refine tw_sub [2, 3, 4, 5, 1] (lv' := [(0, .ref o), (1, .int a1), (2, .int a2), (3, .int a3), (4, .int x1)]) rfl ?_
        have hL := hk4 _ hf
        exact hL
      · clear q21
        refine tw_iload X dX6_goes_23 0 rfl ?_
        refine tw_goto (tgt := 32) X dX6_goes_25 rfl ?_
        refine tw_sub [2, 3, 4, 5, 1] (lv' := [(0, .ref o), (1, .int a1), (2, .int a2), (3, .int a3), (4, .int x1)]) rfl ?_
        have hL := hk4 _ hf
        exact hL
noncomputable def tF_valueOf : Nat → St → Int32 → Option (Int32 × St)
  | 0 => fun _ _ => none
  | d + 1 => fun g a1 => let rc := tF_valueOf d
  if a1 = 0 then
    some ((2 : Int32), g)
  else
    (tF_nextChange g (-1 : Int32)).bind (un2 fun y1a y1b =>
    iter (L := St × Int32 × Int32) (T := Int32 × St) (un3 fun s2a s2b s2c => 
      if s2c < 0 then
        some (.inr (s2b, s2a))
      else
        if s2b = 0 then
          some (.inr (s2b, s2a))
        else
          (tF_valueBy rc s2a s2c a1).bind (un2 fun y6a y6b =>
          Option.bind (α := Int32) (β := ((St × Int32 × Int32) ⊕ (Int32 × St)))
            (if y6a = 0 then
              some (0 : Int32)
            else
              if y6a = (2 : Int32) then
                some (2 : Int32)
              else
                some s2b)
            (fun j7 => (tF_nextChange y6b s2c).bind (un2 fun y9a y9b =>
            some (.inl (y9b, j7, y9a)))))) (y1b, (1 : Int32), y1a))
set_option maxHeartbeats 4000000 in
theorem tC_valueOf {l : Launch} {D : va_G} {A : Nat → Prop} {o : Nat} {ad : Nat → Nat} {dI : ClassId} : ∀ (d : Nat) (g : St) (a1 : Int32) (z : Int32 × St), tF_valueOf d g a1 = some z → Ct l yX6_valueOf cX6_valueOf 5 (some .int) (9 + 9 * d) (208 + 210 * d) D vwCl [(dI, .int)] A (tW o ad dI) [.ref o, .int a1] g (QI D vwCl A (tW o ad dI) z.1 z.2) := by
  intro d
  induction d with
  | zero =>
    intro g a1 z hf
    cases hf
  | succ d ih =>
    intro g a1 z hf
    rw [tF_valueOf] at hf
    generalize hrc : tF_valueOf d = rc at hf ih
    dsimp only at hf
    have hrec := ih
    generalize hF : (9 + 9 * d) = F at hrec
    generalize hLo : (208 + 210 * d) = Lo at hrec
    refine ct_intro (own := RX6) (lv0 := [(0, .ref o), (1, .int a1)]) (by decide) rfl (Nat.le_of_ble_eq_true rfl) rfl ?_
    intro p e s m args below meth c X hr
    refine tw_iload_n X dX6_valueOf_0 rfl 1 rfl ?_
    refine tw_if_ne (tgt := 6) X dX6_valueOf_1 rfl hf (fun q16 hf => ?_) (fun q16 hf => ?_)
    · clear q16
      refine tw_iconst (v := 2) X dX6_valueOf_4 rfl ?_
      exact tw_iret X hr (prj1 hf) (prj2 hf) dX6_valueOf_5
    · clear q16
      refine tw_iconst (v := 1) X dX6_valueOf_6 rfl ?_
      refine tw_istore_n (lv' := [(2, .int (1 : Int32)), (0, .ref o), (1, .int a1)]) X dX6_valueOf_7 rfl (by decide) rfl ?_
      refine tw_aload_n X dX6_valueOf_8 rfl 1 rfl ?_
      refine tw_iconst (v := -1) X dX6_valueOf_9 rfl ?_
      obtain ⟨⟨y1a, y1b⟩, hy1, hf⟩ := bnd hf
      dsimp only [un2] at hf
      refine tw_callVi (As := [.int (-1 : Int32)]) (st := []) X (tC_nextChange hy1) tG_nextChange tI_nextChange (rom_le (by omega) (by omega)) ⟨Nat.zero_le _, Nat.zero_le _⟩ 0 rfl rfl rfl rfl (Nat.le_of_ble_eq_true rfl) dX6_valueOf_10 ?_
      refine tw_istore_n (lv' := [(3, .int y1a), (2, .int (1 : Int32)), (0, .ref o), (1, .int a1)]) X dX6_valueOf_13 rfl (by decide) rfl ?_
      refine tw_sub [2, 3, 1, 0] (lv' := [(0, .ref o), (1, .int a1), (2, .int (1 : Int32)), (3, .int y1a)]) rfl ?_
      refine it_walk (P := un3 fun s2a s2b s2c => TW p l e (rom (9 + 9 * (d + 1)) (208 + 210 * (d + 1))) s m args below meth c (MQ below (QI D vwCl A (tW o ad dI) z.1 z.2) args s 0 0 A) D vwCl A (tW o ad dI) 5 0 0 s2a 14 [(0, .ref o), (1, .int a1), (2, .int s2b), (3, .int s2c)] []) hf ?_
      rintro ⟨s2a, s2b, s2c⟩ zz15 hf hl3
      dsimp only [un3] at hf ⊢
      refine tw_iload_n X dX6_valueOf_14 rfl 3 rfl ?_
      refine tw_if_lt (tgt := 60) X dX6_valueOf_15 rfl hf (fun q14 hf => ?_) (fun q14 hf => ?_)
      · clear q14
        refine tw_iload_n X dX6_valueOf_60 rfl 2 rfl ?_
        have hf4 := leafR hf hl3
        exact tw_iret X hr (prj1 hf4) (prj2 hf4) dX6_valueOf_61
      · clear q14
        refine tw_iload_n X dX6_valueOf_18 rfl 2 rfl ?_
        refine tw_if_eq (tgt := 60) X dX6_valueOf_19 rfl hf (fun q13 hf => ?_) (fun q13 hf => ?_)
        · clear q13
          refine tw_iload_n X dX6_valueOf_60 rfl 2 rfl ?_
          have hf5 := leafR hf hl3
          exact tw_iret X hr (prj1 hf5) (prj2 hf5) dX6_valueOf_61
        · clear q13
          refine tw_aload_n X dX6_valueOf_22 rfl 0 rfl ?_
          refine tw_iload_n X dX6_valueOf_23 rfl 3 rfl ?_
          refine tw_iload_n X dX6_valueOf_24 rfl 1 rfl ?_
          obtain ⟨⟨y6a, y6b⟩, hy6, hf⟩ := bnd hf
          dsimp only [un2] at hf
          refine tw_callVi (As := [.int s2c, .int a1]) (st := []) X (tC_valueBy hrec hy6) tG_valueBy tI_valueBy (rom_le (by omega) (by omega)) ⟨Nat.zero_le _, Nat.zero_le _⟩ 0 rfl rfl rfl rfl (Nat.le_of_ble_eq_true rfl) dX6_valueOf_25 ?_
          refine tw_istore (lv' := [(4, .int y6a), (0, .ref o), (1, .int a1), (2, .int s2b), (3, .int s2c)]) X dX6_valueOf_28 (by decide) rfl ?_
          refine tw_iload X dX6_valueOf_30 0 rfl ?_
          refine bj_walk (P := fun j7 : Int32 => TW p l e (rom (9 + 9 * (d + 1)) (208 + 210 * (d + 1))) s m args below meth c (MQ below (QI D vwCl A (tW o ad dI) z.1 z.2) args s 0 0 A) D vwCl A (tW o ad dI) 5 0 0 y6b 50 [(0, .ref o), (1, .int a1), (3, .int s2c)] [.int j7]) hf ?_ ?_
          · intro j7 hf
            refine tw_istore_n (lv' := [(2, .int j7), (0, .ref o), (1, .int a1), (3, .int s2c)]) X dX6_valueOf_50 rfl (by decide) rfl ?_
            refine tw_aload_n X dX6_valueOf_51 rfl 1 rfl ?_
            refine tw_iload_n X dX6_valueOf_52 rfl 3 rfl ?_
            obtain ⟨⟨y9a, y9b⟩, hy9, hf⟩ := bnd hf
            dsimp only [un2] at hf
            refine tw_callVi (As := [.int s2c]) (st := []) X (tC_nextChange hy9) tG_nextChange tI_nextChange (rom_le (by omega) (by omega)) ⟨Nat.zero_le _, Nat.zero_le _⟩ 0 rfl rfl rfl rfl (Nat.le_of_ble_eq_true rfl) dX6_valueOf_53 ?_
            refine tw_istore_n (lv' := [(3, .int y9a), (2, .int j7), (0, .ref o), (1, .int a1)]) X dX6_valueOf_56 rfl (by decide) rfl ?_
            refine tw_goto (tgt := 14) X dX6_valueOf_57 rfl ?_
            refine tw_sub [2, 3, 1, 0] (lv' := [(0, .ref o), (1, .int a1), (2, .int j7), (3, .int y9a)]) rfl ?_
            have hL := leafL hf hl3
            exact hL
          · intro zz12 hf hk8
            refine tw_if_ne (tgt := 39) X dX6_valueOf_32 rfl hf (fun q11 hf => ?_) (fun q11 hf => ?_)
            · clear q11
              refine tw_iconst (v := 0) X dX6_valueOf_35 rfl ?_
              refine tw_goto (tgt := 50) X dX6_valueOf_36 rfl ?_
              refine tw_sub [1, 2, 4] (lv' := [(0, .ref o), (1, .int a1), (3, .int s2c)]) rfl ?_
              have hL := hk8 _ hf
              exact hL
            · clear q11
              refine tw_iload X dX6_valueOf_39 0 rfl ?_
              refine tw_iconst (v := 2) X dX6_valueOf_41 rfl ?_
              refine tw_icmp_ne (tgt := 49) X dX6_valueOf_42 rfl hf (fun q10 hf => ?_) (fun q10 hf => ?_)
              · clear q10
                refine tw_iconst (v := 2) X dX6_valueOf_45 rfl ?_
                refine tw_goto (tgt := 50) X dX6_valueOf_46 rfl ?_
                refine tw_sub [1, 2, 4] (lv' := [(0, .ref o), (1, .int a1), (3, .int s2c)]) rfl ?_
                have hL := hk8 _ hf
                exact hL
              · clear q10
                refine tw_iload_n X dX6_valueOf_49 rfl 3 rfl ?_
                refine tw_sub [1, 2, 4] (lv' := [(0, .ref o), (1, .int a1), (3, .int s2c)]) rfl ?_
                have hL := hk8 _ hf
                exact hL
noncomputable def tF_play (g : St) (a1 : Int32) : Option (Int32 × St) :=
  if (tF_isGame a1) = 0 then
    some ((-1 : Int32), g)
  else
    (tF_valueOf 8 g a1).bind (un2 fun y2a y2b =>
    (tF_nextChange y2b (-1 : Int32)).bind (un2 fun y3a y3b =>
    iter (L := St × Int32) (T := Int32 × St) (un2 fun s4a s4b => 
      if s4b < 0 then
        some (.inr ((-3 : Int32), s4a))
      else
        (tF_valueBy (tF_valueOf 8) s4a s4b a1).bind (un2 fun y7a y7b =>
        if y7a = y2a then
          some (.inr (s4b, y7b))
        else
          (tF_nextChange y7b s4b).bind (un2 fun y9a y9b =>
          some (.inl (y9b, y9a))))) (y3b, y3a)))
set_option maxHeartbeats 4000000 in
theorem tC_play {l : Launch} {D : va_G} {A : Nat → Prop} {o : Nat} {ad : Nat → Nat} {dI : ClassId} {g : St} {a1 : Int32} {z : Int32 × St} (hf : tF_play g a1 = some z) : Ct l yX6_play cX6_play 4 (some .int) 90 2098 D vwCl [(dI, .int)] A (tW o ad dI) [.ref o, .int a1] g (QI D vwCl A (tW o ad dI) z.1 z.2) := by
  unfold tF_play at hf
  refine ct_intro (own := RX6) (lv0 := [(0, .ref o), (1, .int a1)]) (by decide) rfl (Nat.le_of_ble_eq_true rfl) rfl ?_
  intro p e s m args below meth c X hr
  refine tw_iload_n X dX6_play_0 rfl 1 rfl ?_
  refine tw_callSz (As := [.int a1]) (st := []) X (tC_isGame (g := g) a1) tG_isGame tI_isGame ⟨Nat.le_of_ble_eq_true rfl, Nat.le_of_ble_eq_true rfl⟩ ⟨Nat.zero_le _, Nat.zero_le _⟩ rfl rfl (Nat.le_of_ble_eq_true rfl) dX6_play_1 ?_
  intro hb1
  refine tw_if_ne (tgt := 9) X dX6_play_4 rfl hf (fun q13 hf => ?_) (fun q13 hf => ?_)
  · clear q13
    refine tw_iconst (v := -1) X dX6_play_7 rfl ?_
    exact tw_iret X hr (prj1 hf) (prj2 hf) dX6_play_8
  · clear q13
    refine tw_aload_n X dX6_play_9 rfl 0 rfl ?_
    refine tw_iload_n X dX6_play_10 rfl 1 rfl ?_
    obtain ⟨⟨y2a, y2b⟩, hy2, hf⟩ := bnd hf
    dsimp only [un2] at hf
    refine tw_callVi (As := [.int a1]) (st := []) X (tC_valueOf 8 _ _ _ hy2) tG_valueOf tI_valueOf ⟨Nat.le_of_ble_eq_true rfl, Nat.le_of_ble_eq_true rfl⟩ ⟨Nat.zero_le _, Nat.zero_le _⟩ 0 rfl rfl rfl rfl (Nat.le_of_ble_eq_true rfl) dX6_play_11 ?_
    refine tw_istore_n (lv' := [(2, .int y2a), (0, .ref o), (1, .int a1)]) X dX6_play_14 rfl (by decide) rfl ?_
    refine tw_aload_n X dX6_play_15 rfl 1 rfl ?_
    refine tw_iconst (v := -1) X dX6_play_16 rfl ?_
    obtain ⟨⟨y3a, y3b⟩, hy3, hf⟩ := bnd hf
    dsimp only [un2] at hf
    refine tw_callVi (As := [.int (-1 : Int32)]) (st := []) X (tC_nextChange hy3) tG_nextChange tI_nextChange ⟨Nat.le_of_ble_eq_true rfl, Nat.le_of_ble_eq_true rfl⟩ ⟨Nat.zero_le _, Nat.zero_le _⟩ 0 rfl rfl rfl rfl (Nat.le_of_ble_eq_true rfl) dX6_play_17 ?_
    refine tw_istore_n (lv' := [(3, .int y3a), (2, .int y2a), (0, .ref o), (1, .int a1)]) X dX6_play_20 rfl (by decide) rfl ?_
    refine tw_sub [2, 3, 1, 0] (lv' := [(0, .ref o), (1, .int a1), (2, .int y2a), (3, .int y3a)]) rfl ?_
    refine it_walk (P := un2 fun s4a s4b => TW p l e (rom 90 2098) s m args below meth c (MQ below (QI D vwCl A (tW o ad dI) z.1 z.2) args s 0 0 A) D vwCl A (tW o ad dI) 4 0 0 s4a 21 [(0, .ref o), (1, .int a1), (2, .int y2a), (3, .int s4b)] []) hf ?_
    rintro ⟨s4a, s4b⟩ zz12 hf hl5
    dsimp only [un2] at hf ⊢
    refine tw_iload_n X dX6_play_21 rfl 3 rfl ?_
    refine tw_if_lt (tgt := 46) X dX6_play_22 rfl hf (fun q11 hf => ?_) (fun q11 hf => ?_)
    · clear q11
      refine tw_bipush (v := -3) X dX6_play_46 rfl ?_
      have hf6 := leafR hf hl5
      exact tw_iret X hr (prj1 hf6) (prj2 hf6) dX6_play_48
    · clear q11
      refine tw_aload_n X dX6_play_25 rfl 0 rfl ?_
      refine tw_iload_n X dX6_play_26 rfl 3 rfl ?_
      refine tw_iload_n X dX6_play_27 rfl 1 rfl ?_
      obtain ⟨⟨y7a, y7b⟩, hy7, hf⟩ := bnd hf
      dsimp only [un2] at hf
      refine tw_callVi (As := [.int s4b, .int a1]) (st := []) X (tC_valueBy (tC_valueOf 8) hy7) tG_valueBy tI_valueBy ⟨Nat.le_of_ble_eq_true rfl, Nat.le_of_ble_eq_true rfl⟩ ⟨Nat.zero_le _, Nat.zero_le _⟩ 0 rfl rfl rfl rfl (Nat.le_of_ble_eq_true rfl) dX6_play_28 ?_
      refine tw_iload_n X dX6_play_31 rfl 2 rfl ?_
      refine tw_icmp_ne (tgt := 37) X dX6_play_32 rfl hf (fun q10 hf => ?_) (fun q10 hf => ?_)
      · clear q10
        refine tw_iload_n X dX6_play_35 rfl 3 rfl ?_
        have hf8 := leafR hf hl5
        exact tw_iret X hr (prj1 hf8) (prj2 hf8) dX6_play_36
      · clear q10
        refine tw_aload_n X dX6_play_37 rfl 0 rfl ?_
        refine tw_iload_n X dX6_play_38 rfl 3 rfl ?_
        obtain ⟨⟨y9a, y9b⟩, hy9, hf⟩ := bnd hf
        dsimp only [un2] at hf
        refine tw_callVi (As := [.int s4b]) (st := []) X (tC_nextChange hy9) tG_nextChange tI_nextChange ⟨Nat.le_of_ble_eq_true rfl, Nat.le_of_ble_eq_true rfl⟩ ⟨Nat.zero_le _, Nat.zero_le _⟩ 0 rfl rfl rfl rfl (Nat.le_of_ble_eq_true rfl) dX6_play_39 ?_
        refine tw_istore_n (lv' := [(3, .int y9a), (0, .ref o), (1, .int a1), (2, .int y2a)]) X dX6_play_42 rfl (by decide) rfl ?_
        refine tw_goto (tgt := 21) X dX6_play_43 rfl ?_
        refine tw_sub [1, 2, 3, 0] (lv' := [(0, .ref o), (1, .int a1), (2, .int y2a), (3, .int y9a)]) rfl ?_
        have hL := leafL hf hl5
        exact hL
noncomputable def tF_drawn (g : St) : Option (Int32 × St) :=
  (tF_nextChange g (-1 : Int32)).bind (un2 fun y1a y1b =>
  Option.bind (α := St × Int32) (β := Int32 × St)
    (iter (L := St × Int32 × Int32) (T := St × Int32) (un3 fun s16a s16b s16c => 
      if s16c < 0 then
        some (.inr (s16a, s16b))
      else
        (tF_nextChange s16a s16c).bind (un2 fun y19a y19b =>
        some (.inl (y19b, (s16b + (1 : Int32)), y19a)))) (y1b, (0 : Int32), y1a))
    (un2 fun j2a j2b => if j2b = 0 then
      some ((-1 : Int32), j2a)
    else
      (rd (j2a 1) 340 (5 : Int32)).bind fun x4 =>
      (wr j2a 1 340 (5 : Int32) ((x4 * (1103515245 : Int32)) + (12345 : Int32))).bind fun g5 =>
      (rd (g5 1) 340 (5 : Int32)).bind fun x6 =>
      (rm ((x6).toUInt32 >>> (((16 : Int32)).toUInt32 &&& Int32.toUInt32 31)).toInt32 j2b).bind fun x7 =>
      (tF_nextChange g5 (-1 : Int32)).bind (un2 fun y8a y8b =>
      iter (L := St × Int32 × Int32) (T := Int32 × St) (un3 fun s9a s9b s9c => 
        if s9b ≤ 0 then
          some (.inr (s9c, s9a))
        else
          (tF_nextChange s9a s9c).bind (un2 fun y12a y12b =>
          some (.inl (y12b, (s9b + (-1 : Int32)), y12a)))) (y8b, x7, y8a))))
set_option maxHeartbeats 4000000 in
theorem tC_drawn {l : Launch} {D : va_G} {A : Nat → Prop} {o : Nat} {ad : Nat → Nat} {dI : ClassId} {g : St} {z : Int32 × St} (hf : tF_drawn g = some z) : Ct l yX6_drawn cX6_drawn 4 (some .int) 9 208 D vwCl [(dI, .int)] A (tW o ad dI) [.ref o] g (QI D vwCl A (tW o ad dI) z.1 z.2) := by
  unfold tF_drawn at hf
  refine ct_intro (own := RX6) (lv0 := [(0, .ref o)]) (by decide) rfl (Nat.le_of_ble_eq_true rfl) rfl ?_
  intro p e s m args below meth c X hr
  refine tw_iconst (v := 0) X dX6_drawn_0 rfl ?_
  refine tw_istore_n (lv' := [(1, .int (0 : Int32)), (0, .ref o)]) X dX6_drawn_1 rfl (by decide) rfl ?_
  refine tw_aload_n X dX6_drawn_2 rfl 1 rfl ?_
  refine tw_iconst (v := -1) X dX6_drawn_3 rfl ?_
  obtain ⟨⟨y1a, y1b⟩, hy1, hf⟩ := bnd hf
  dsimp only [un2] at hf
  refine tw_callVi (As := [.int (-1 : Int32)]) (st := []) X (tC_nextChange hy1) tG_nextChange tI_nextChange ⟨Nat.le_of_ble_eq_true rfl, Nat.le_of_ble_eq_true rfl⟩ ⟨Nat.zero_le _, Nat.zero_le _⟩ 0 rfl rfl rfl rfl (Nat.le_of_ble_eq_true rfl) dX6_drawn_4 ?_
  refine tw_istore_n (lv' := [(2, .int y1a), (1, .int (0 : Int32)), (0, .ref o)]) X dX6_drawn_7 rfl (by decide) rfl ?_
  refine bj_walk (P := un2 fun j2a j2b => TW p l e (rom 9 208) s m args below meth c (MQ below (QI D vwCl A (tW o ad dI) z.1 z.2) args s 0 0 A) D vwCl A (tW o ad dI) 4 0 0 j2a 24 [(0, .ref o), (1, .int j2b)] []) hf ?_ ?_
  · rintro ⟨j2a, j2b⟩ hf
    dsimp only [un2] at hf ⊢
    refine tw_iload_n X dX6_drawn_24 rfl 1 rfl ?_
    refine tw_if_ne (tgt := 30) X dX6_drawn_25 rfl hf (fun q15 hf => ?_) (fun q15 hf => ?_)
    · clear q15
      refine tw_iconst (v := -1) X dX6_drawn_28 rfl ?_
      exact tw_iret X hr (prj1 hf) (prj2 hf) dX6_drawn_29
    · clear q15
      refine tw_aload_n X dX6_drawn_30 rfl 0 rfl ?_
      refine tg_s X  dX6_drawn_31 ?_
      refine tw_iconst (v := 5) X dX6_drawn_34 rfl ?_
      refine tw_aload_n X dX6_drawn_35 rfl 0 rfl ?_
      refine tg_s X  dX6_drawn_36 ?_
      refine tw_iconst (v := 5) X dX6_drawn_39 rfl ?_
      obtain ⟨x4, hx4, hf⟩ := bnd hf
      refine ta_s X hx4 dX6_drawn_40 ?_
      refine tw_ldcw (v := 1103515245) X q1971 dX6_drawn_41 ?_
      refine tw_imul X dX6_drawn_44 ?_
      refine tw_sipush (v := 12345) X dX6_drawn_45 rfl ?_
      refine tw_iadd X dX6_drawn_48 ?_
      obtain ⟨g5, hg5, hf⟩ := bnd hf
      refine ts_s X hg5 dX6_drawn_49 ?_
      refine tw_aload_n X dX6_drawn_50 rfl 0 rfl ?_
      refine tg_s X  dX6_drawn_51 ?_
      refine tw_iconst (v := 5) X dX6_drawn_54 rfl ?_
      obtain ⟨x6, hx6, hf⟩ := bnd hf
      refine ta_s X hx6 dX6_drawn_55 ?_
      refine tw_bipush (v := 16) X dX6_drawn_56 rfl ?_
      refine tw_iushr X dX6_drawn_58 ?_
      refine tw_iload_n X dX6_drawn_59 rfl 1 rfl ?_
      obtain ⟨x7, hx7, hf⟩ := bnd hf
      refine tw_iremV X dX6_drawn_60 hx7 ?_
      refine tw_istore_n (lv' := [(2, .int x7), (0, .ref o), (1, .int j2b)]) X dX6_drawn_61 rfl (by decide) rfl ?_
      refine tw_aload_n X dX6_drawn_62 rfl 1 rfl ?_
      refine tw_iconst (v := -1) X dX6_drawn_63 rfl ?_
      obtain ⟨⟨y8a, y8b⟩, hy8, hf⟩ := bnd hf
      dsimp only [un2] at hf
      refine tw_callVi (As := [.int (-1 : Int32)]) (st := []) X (tC_nextChange hy8) tG_nextChange tI_nextChange ⟨Nat.le_of_ble_eq_true rfl, Nat.le_of_ble_eq_true rfl⟩ ⟨Nat.zero_le _, Nat.zero_le _⟩ 0 rfl rfl rfl rfl (Nat.le_of_ble_eq_true rfl) dX6_drawn_64 ?_
      refine tw_istore_n (lv' := [(3, .int y8a), (2, .int x7), (0, .ref o), (1, .int j2b)]) X dX6_drawn_67 rfl (by decide) rfl ?_
      refine tw_sub [2, 1, 0] (lv' := [(0, .ref o), (2, .int x7), (3, .int y8a)]) rfl ?_
      refine it_walk (P := un3 fun s9a s9b s9c => TW p l e (rom 9 208) s m args below meth c (MQ below (QI D vwCl A (tW o ad dI) z.1 z.2) args s 0 0 A) D vwCl A (tW o ad dI) 4 0 0 s9a 68 [(0, .ref o), (2, .int s9b), (3, .int s9c)] []) hf ?_
      rintro ⟨s9a, s9b, s9c⟩ zz14 hf hl10
      dsimp only [un3] at hf ⊢
      refine tw_iload_n X dX6_drawn_68 rfl 1 rfl ?_
      refine tw_if_le (tgt := 84) X dX6_drawn_69 rfl hf (fun q13 hf => ?_) (fun q13 hf => ?_)
      · clear q13
        refine tw_iload_n X dX6_drawn_84 rfl 2 rfl ?_
        have hf11 := leafR hf hl10
        exact tw_iret X hr (prj1 hf11) (prj2 hf11) dX6_drawn_85
      · clear q13
        refine tw_aload_n X dX6_drawn_72 rfl 0 rfl ?_
        refine tw_iload_n X dX6_drawn_73 rfl 2 rfl ?_
        obtain ⟨⟨y12a, y12b⟩, hy12, hf⟩ := bnd hf
        dsimp only [un2] at hf
        refine tw_callVi (As := [.int s9c]) (st := []) X (tC_nextChange hy12) tG_nextChange tI_nextChange ⟨Nat.le_of_ble_eq_true rfl, Nat.le_of_ble_eq_true rfl⟩ ⟨Nat.zero_le _, Nat.zero_le _⟩ 0 rfl rfl rfl rfl (Nat.le_of_ble_eq_true rfl) dX6_drawn_74 ?_
        refine tw_istore_n (lv' := [(3, .int y12a), (0, .ref o), (2, .int s9b)]) X dX6_drawn_77 rfl (by decide) rfl ?_
        refine tw_iinc (q := 2) (v := (s9b + (-1 : Int32))) (lv' := [(2, .int (s9b + (-1 : Int32))), (3, .int y12a), (0, .ref o)]) X dX6_drawn_78 rfl rfl (by decide) rfl ?_
        refine tw_goto (tgt := 68) X dX6_drawn_81 rfl ?_
        refine tw_sub [2, 0, 1] (lv' := [(0, .ref o), (2, .int (s9b + (-1 : Int32))), (3, .int y12a)]) rfl ?_
        have hL := leafL hf hl10
        exact hL
  · intro zz22 hf hk3
    refine tw_sub [2, 1, 0] (lv' := [(0, .ref o), (1, .int (0 : Int32)), (2, .int y1a)]) rfl ?_
    refine it_walk (P := un3 fun s16a s16b s16c => TW p l e (rom 9 208) s m args below meth c (MQ below (QI D vwCl A (tW o ad dI) z.1 z.2) args s 0 0 A) D vwCl A (tW o ad dI) 4 0 0 s16a 8 [(0, .ref o), (1, .int s16b), (2, .int s16c)] []) hf ?_
    rintro ⟨s16a, s16b, s16c⟩ zz21 hf hl17
    dsimp only [un3] at hf ⊢
    refine tw_iload_n X dX6_drawn_8 rfl 2 rfl ?_
    refine tw_if_lt (tgt := 24) X dX6_drawn_9 rfl hf (fun q20 hf => ?_) (fun q20 hf => ?_)
    · clear q20
      have hf18 := leafR hf hl17
      refine tw_sub [0, 1] (lv' := [(0, .ref o), (1, .int s16b)]) rfl ?_
      have hL := hk3 _ hf18
      exact hL
    · clear q20
      refine tw_iinc (q := 1) (v := (s16b + (1 : Int32))) (lv' := [(1, .int (s16b + (1 : Int32))), (0, .ref o), (2, .int s16c)]) X dX6_drawn_12 rfl rfl (by decide) rfl ?_
      refine tw_aload_n X dX6_drawn_15 rfl 1 rfl ?_
      refine tw_iload_n X dX6_drawn_16 rfl 2 rfl ?_
      obtain ⟨⟨y19a, y19b⟩, hy19, hf⟩ := bnd hf
      dsimp only [un2] at hf
      refine tw_callVi (As := [.int s16c]) (st := []) X (tC_nextChange hy19) tG_nextChange tI_nextChange ⟨Nat.le_of_ble_eq_true rfl, Nat.le_of_ble_eq_true rfl⟩ ⟨Nat.zero_le _, Nat.zero_le _⟩ 0 rfl rfl rfl rfl (Nat.le_of_ble_eq_true rfl) dX6_drawn_17 ?_
      refine tw_istore_n (lv' := [(2, .int y19a), (1, .int (s16b + (1 : Int32))), (0, .ref o)]) X dX6_drawn_20 rfl (by decide) rfl ?_
      refine tw_goto (tgt := 8) X dX6_drawn_21 rfl ?_
      refine tw_sub [2, 1, 0] (lv' := [(0, .ref o), (1, .int (s16b + (1 : Int32))), (2, .int y19a)]) rfl ?_
      have hL := leafL hf hl17
      exact hL
noncomputable def tF_often (g : St) (a1 : Int32) : Option (Int32 × St) :=
  if (tF_in (a1).toInt64 (1 : Int64) (60 : Int64)) = 0 then
    some ((-1 : Int32), g)
  else
    (tF_puts g).bind fun g2 =>
    Option.bind (α := St × Int32) (β := Int32 × St)
      (iter (L := St × Int32 × Int32) (T := St × Int32) (un3 fun s6a s6b s6c => 
        if a1 ≤ s6c then
          some (.inr (s6a, s6b))
        else
          (tF_drawn s6a).bind (un2 fun y9a y9b =>
          Option.bind (α := St) (β := ((St × Int32 × Int32) ⊕ (St × Int32)))
            (iter (L := St × Int32) (T := St) (un2 fun s21a s21b => 
              if s21b < 0 then
                some (.inr s21a)
              else
                (tF_does s21a s21b).bind fun g24 =>
                (tF_drawn g24).bind (un2 fun y25a y25b =>
                some (.inl (y25b, y25a)))) (y9b, y9a))
            (fun j10 => (tF_wholeSet j10).bind fun x12 =>
            (tF_thereSet j10).bind fun x13 =>
            Option.bind (α := Int32) (β := ((St × Int32 × Int32) ⊕ (St × Int32)))
              (if x12 = x13 then
                some (1 : Int32)
              else
                some (0 : Int32))
              (fun j14 => (rd (j10 1) 340 (5 : Int32)).bind fun x16 =>
              (tF_putsBack j10).bind fun g17 =>
              (wr g17 1 340 (5 : Int32) x16).bind fun g18 =>
              some (.inl (g18, (s6b + j14), (s6c + (1 : Int32)))))))) (g2, (0 : Int32), (0 : Int32)))
      (un2 fun j3a j3b => (tF_putsBack j3a).bind fun g5 =>
      some (j3b, g5))
set_option maxHeartbeats 4000000 in
theorem tC_often {l : Launch} {D : va_G} {A : Nat → Prop} {o : Nat} {ad : Nat → Nat} {dI : ClassId} {g : St} {a1 : Int32} {z : Int32 × St} (hf : tF_often g a1 = some z) : Ct l yX6_often cX6_often 5 (some .int) 10 231 D vwCl [(dI, .int)] A (tW o ad dI) [.ref o, .int a1] g (QI D vwCl A (tW o ad dI) z.1 z.2) := by
  unfold tF_often at hf
  refine ct_intro (own := RX6) (lv0 := [(0, .ref o), (1, .int a1)]) (by decide) rfl (Nat.le_of_ble_eq_true rfl) rfl ?_
  intro p e s m args below meth c X hr
  refine tw_iload_n X dX6_often_0 rfl 1 rfl ?_
  refine tw_i2l X dX6_often_1 ?_
  refine tw_lconst (v := 1) X dX6_often_2 rfl ?_
  refine tw_ldc2 (v := 60) X q1976 dX6_often_3 ?_
  refine tw_callSz (As := [.long (a1).toInt64, .long (1 : Int64), .long (60 : Int64)]) (st := []) X (tC_in (g := g) (a1).toInt64 (1 : Int64) (60 : Int64)) tG_in tI_in ⟨Nat.le_of_ble_eq_true rfl, Nat.le_of_ble_eq_true rfl⟩ ⟨Nat.zero_le _, Nat.zero_le _⟩ rfl rfl (Nat.le_of_ble_eq_true rfl) dX6_often_6 ?_
  intro hb1
  refine tw_if_ne (tgt := 14) X dX6_often_9 rfl hf (fun q32 hf => ?_) (fun q32 hf => ?_)
  · clear q32
    refine tw_iconst (v := -1) X dX6_often_12 rfl ?_
    exact tw_iret X hr (prj1 hf) (prj2 hf) dX6_often_13
  · clear q32
    refine tw_aload_n X dX6_often_14 rfl 0 rfl ?_
    obtain ⟨g2, hg2, hf⟩ := bnd hf
    refine tw_callVv (As := []) (st := []) X (tC_puts hg2) tG_puts tI_puts ⟨Nat.le_of_ble_eq_true rfl, Nat.le_of_ble_eq_true rfl⟩ ⟨Nat.zero_le _, Nat.zero_le _⟩ 0 rfl rfl rfl rfl (Nat.le_of_ble_eq_true rfl) dX6_often_15 ?_
    refine tw_iconst (v := 0) X dX6_often_18 rfl ?_
    refine tw_istore_n (lv' := [(2, .int (0 : Int32)), (0, .ref o), (1, .int a1)]) X dX6_often_19 rfl (by decide) rfl ?_
    refine tw_iconst (v := 0) X dX6_often_20 rfl ?_
    refine tw_istore_n (lv' := [(3, .int (0 : Int32)), (2, .int (0 : Int32)), (0, .ref o), (1, .int a1)]) X dX6_often_21 rfl (by decide) rfl ?_
    refine bj_walk (P := un2 fun j3a j3b => TW p l e (rom 10 231) s m args below meth c (MQ below (QI D vwCl A (tW o ad dI) z.1 z.2) args s 0 0 A) D vwCl A (tW o ad dI) 5 0 0 j3a 98 [(0, .ref o), (2, .int j3b)] []) hf ?_ ?_
    · rintro ⟨j3a, j3b⟩ hf
      dsimp only [un2] at hf ⊢
      refine tw_aload_n X dX6_often_98 rfl 0 rfl ?_
      obtain ⟨g5, hg5, hf⟩ := bnd hf
      refine tw_callVv (As := []) (st := []) X (tC_putsBack hg5) tG_putsBack tI_putsBack ⟨Nat.le_of_ble_eq_true rfl, Nat.le_of_ble_eq_true rfl⟩ ⟨Nat.zero_le _, Nat.zero_le _⟩ 0 rfl rfl rfl rfl (Nat.le_of_ble_eq_true rfl) dX6_often_99 ?_
      refine tw_iload_n X dX6_often_102 rfl 1 rfl ?_
      exact tw_iret X hr (prj1 hf) (prj2 hf) dX6_often_103
    · intro zz31 hf hk4
      refine tw_sub [2, 3, 1, 0] (lv' := [(0, .ref o), (1, .int a1), (2, .int (0 : Int32)), (3, .int (0 : Int32))]) rfl ?_
      refine it_walk (P := un3 fun s6a s6b s6c => TW p l e (rom 10 231) s m args below meth c (MQ below (QI D vwCl A (tW o ad dI) z.1 z.2) args s 0 0 A) D vwCl A (tW o ad dI) 5 0 0 s6a 22 [(0, .ref o), (1, .int a1), (2, .int s6b), (3, .int s6c)] []) hf ?_
      rintro ⟨s6a, s6b, s6c⟩ zz30 hf hl7
      dsimp only [un3] at hf ⊢
      refine tw_iload_n X dX6_often_22 rfl 3 rfl ?_
      refine tw_iload_n X dX6_often_23 rfl 1 rfl ?_
      refine tw_icmp_ge (tgt := 98) X dX6_often_24 rfl hf (fun q29 hf => ?_) (fun q29 hf => ?_)
      · clear q29
        have hf8 := leafR hf hl7
        refine tw_sub [0, 2] (lv' := [(0, .ref o), (2, .int s6b)]) rfl ?_
        have hL := hk4 _ hf8
        exact hL
      · clear q29
        refine tw_aload_n X dX6_often_27 rfl 0 rfl ?_
        obtain ⟨⟨y9a, y9b⟩, hy9, hf⟩ := bnd hf
        dsimp only [un2] at hf
        refine tw_callVi (As := []) (st := []) X (tC_drawn hy9) tG_drawn tI_drawn ⟨Nat.le_of_ble_eq_true rfl, Nat.le_of_ble_eq_true rfl⟩ ⟨Nat.zero_le _, Nat.zero_le _⟩ 0 rfl rfl rfl rfl (Nat.le_of_ble_eq_true rfl) dX6_often_28 ?_
        refine tw_istore (lv' := [(4, .int y9a), (0, .ref o), (1, .int a1), (2, .int s6b), (3, .int s6c)]) X dX6_often_31 (by decide) rfl ?_
        refine bj_walk (P := fun j10 : St => TW p l e (rom 10 231) s m args below meth c (MQ below (QI D vwCl A (tW o ad dI) z.1 z.2) args s 0 0 A) D vwCl A (tW o ad dI) 5 0 0 j10 53 [(0, .ref o), (1, .int a1), (2, .int s6b), (3, .int s6c)] []) hf ?_ ?_
        · intro j10 hf
          refine tw_iload_n X dX6_often_53 rfl 2 rfl ?_
          refine tw_aload_n X dX6_often_54 rfl 0 rfl ?_
          obtain ⟨x12, hx12, hf⟩ := bnd hf
          refine tw_callVi (As := []) (st := [.int s6b]) X (tC_wholeSet hx12) tG_wholeSet tI_wholeSet ⟨Nat.le_of_ble_eq_true rfl, Nat.le_of_ble_eq_true rfl⟩ ⟨Nat.zero_le _, Nat.zero_le _⟩ 0 rfl rfl rfl rfl (Nat.le_of_ble_eq_true rfl) dX6_often_55 ?_
          refine tw_aload_n X dX6_often_58 rfl 0 rfl ?_
          obtain ⟨x13, hx13, hf⟩ := bnd hf
          refine tw_callVi (As := []) (st := [.int x12, .int s6b]) X (tC_thereSet hx13) tG_thereSet tI_thereSet ⟨Nat.le_of_ble_eq_true rfl, Nat.le_of_ble_eq_true rfl⟩ ⟨Nat.zero_le _, Nat.zero_le _⟩ 0 rfl rfl rfl rfl (Nat.le_of_ble_eq_true rfl) dX6_often_59 ?_
          refine bj_walk (P := fun j14 : Int32 => TW p l e (rom 10 231) s m args below meth c (MQ below (QI D vwCl A (tW o ad dI) z.1 z.2) args s 0 0 A) D vwCl A (tW o ad dI) 5 0 0 j10 70 [(0, .ref o), (1, .int a1), (3, .int s6c)] [.int j14, .int s6b]) hf ?_ ?_
          · intro j14 hf
            refine tw_iadd X dX6_often_70 ?_
            refine tw_istore_n (lv' := [(2, .int (s6b + j14)), (0, .ref o), (1, .int a1), (3, .int s6c)]) X dX6_often_71 rfl (by decide) rfl ?_
            refine tw_aload_n X dX6_often_72 rfl 1 rfl ?_
            refine tg_s X  dX6_often_73 ?_
            refine tw_iconst (v := 5) X dX6_often_76 rfl ?_
            obtain ⟨x16, hx16, hf⟩ := bnd hf
            refine ta_s X hx16 dX6_often_77 ?_
            refine tw_istore (lv' := [(4, .int x16), (2, .int (s6b + j14)), (0, .ref o), (1, .int a1), (3, .int s6c)]) X dX6_often_78 (by decide) rfl ?_
            refine tw_aload_n X dX6_often_80 rfl 2 rfl ?_
            obtain ⟨g17, hg17, hf⟩ := bnd hf
            refine tw_callVv (As := []) (st := []) X (tC_putsBack hg17) tG_putsBack tI_putsBack ⟨Nat.le_of_ble_eq_true rfl, Nat.le_of_ble_eq_true rfl⟩ ⟨Nat.zero_le _, Nat.zero_le _⟩ 0 rfl rfl rfl rfl (Nat.le_of_ble_eq_true rfl) dX6_often_81 ?_
            refine tw_aload_n X dX6_often_84 rfl 2 rfl ?_
            refine tg_s X  dX6_often_85 ?_
            refine tw_iconst (v := 5) X dX6_often_88 rfl ?_
            refine tw_iload X dX6_often_89 0 rfl ?_
            obtain ⟨g18, hg18, hf⟩ := bnd hf
            refine ts_s X hg18 dX6_often_91 ?_
            refine tw_iinc (q := 4) (v := (s6c + (1 : Int32))) (lv' := [(3, .int (s6c + (1 : Int32))), (4, .int x16), (2, .int (s6b + j14)), (0, .ref o), (1, .int a1)]) X dX6_often_92 rfl rfl (by decide) rfl ?_
            refine tw_goto (tgt := 22) X dX6_often_95 rfl ?_
            refine tw_sub [3, 4, 2, 0] (lv' := [(0, .ref o), (1, .int a1), (2, .int (s6b + j14)), (3, .int (s6c + (1 : Int32)))]) rfl ?_
            have hL := leafL hf hl7
            exact hL
          · intro zz20 hf hk15
            refine tw_icmp_ne (tgt := 69) X dX6_often_62 rfl hf (fun q19 hf => ?_) (fun q19 hf => ?_)
            · clear q19
              refine tw_iconst (v := 1) X dX6_often_65 rfl ?_
              refine tw_goto (tgt := 70) X dX6_often_66 rfl ?_
              refine tw_sub [0, 1, 3] (lv' := [(0, .ref o), (1, .int a1), (3, .int s6c)]) rfl ?_
              have hL := hk15 _ hf
              exact hL
            · clear q19
              refine tw_iconst (v := 0) X dX6_often_69 rfl ?_
              refine tw_sub [0, 1, 3] (lv' := [(0, .ref o), (1, .int a1), (3, .int s6c)]) rfl ?_
              have hL := hk15 _ hf
              exact hL
        · intro zz28 hf hk11
          refine tw_sub [1, 2, 3, 4, 0] (lv' := [(0, .ref o), (1, .int a1), (2, .int s6b), (3, .int s6c), (4, .int y9a)]) rfl ?_
          refine it_walk (P := un2 fun s21a s21b => TW p l e (rom 10 231) s m args below meth c (MQ below (QI D vwCl A (tW o ad dI) z.1 z.2) args s 0 0 A) D vwCl A (tW o ad dI) 5 0 0 s21a 33 [(0, .ref o), (1, .int a1), (2, .int s6b), (3, .int s6c), (4, .int s21b)] []) hf ?_
          rintro ⟨s21a, s21b⟩ zz27 hf hl22
          dsimp only [un2] at hf ⊢
          refine tw_iload X dX6_often_33 4 rfl ?_
          refine tw_if_lt (tgt := 53) X dX6_often_35 rfl hf (fun q26 hf => ?_) (fun q26 hf => ?_)
          · clear q26
            have hf23 := leafR hf hl22
            refine tw_sub [0, 1, 2, 3] (lv' := [(0, .ref o), (1, .int a1), (2, .int s6b), (3, .int s6c)]) rfl ?_
            have hL := hk11 _ hf23
            exact hL
          · clear q26
            refine tw_aload_n X dX6_often_38 rfl 0 rfl ?_
            refine tw_iload X dX6_often_39 4 rfl ?_
            obtain ⟨g24, hg24, hf⟩ := bnd hf
            refine tw_callVv (As := [.int s21b]) (st := []) X (tC_does hg24) tG_does tI_does ⟨Nat.le_of_ble_eq_true rfl, Nat.le_of_ble_eq_true rfl⟩ ⟨Nat.zero_le _, Nat.zero_le _⟩ 0 rfl rfl rfl rfl (Nat.le_of_ble_eq_true rfl) dX6_often_41 ?_
            refine tw_aload_n X dX6_often_44 rfl 0 rfl ?_
            obtain ⟨⟨y25a, y25b⟩, hy25, hf⟩ := bnd hf
            dsimp only [un2] at hf
            refine tw_callVi (As := []) (st := []) X (tC_drawn hy25) tG_drawn tI_drawn ⟨Nat.le_of_ble_eq_true rfl, Nat.le_of_ble_eq_true rfl⟩ ⟨Nat.zero_le _, Nat.zero_le _⟩ 0 rfl rfl rfl rfl (Nat.le_of_ble_eq_true rfl) dX6_often_45 ?_
            refine tw_istore (lv' := [(4, .int y25a), (0, .ref o), (1, .int a1), (2, .int s6b), (3, .int s6c)]) X dX6_often_48 (by decide) rfl ?_
            refine tw_goto (tgt := 33) X dX6_often_50 rfl ?_
            refine tw_sub [1, 2, 3, 4, 0] (lv' := [(0, .ref o), (1, .int a1), (2, .int s6b), (3, .int s6c), (4, .int y25a)]) rfl ?_
            have hL := leafL hf hl22
            exact hL
