/-! THE TWIN's METHODS: a function and a contract each (printed by gen/mk_twin.py) -/
set_option maxRecDepth 100000
noncomputable def tF_in (a1 : Int64) (a2 : Int64) (a3 : Int64) : Int32 :=
  if (lg_cmp a1 a2) < 0 then
    (0 : Int32)
  else
    if 0 < (lg_cmp a1 a3) then
      (0 : Int32)
    else
      (1 : Int32)
set_option maxHeartbeats 4000000 in
theorem tC_in {l : Launch} {D : va_G} {A : Nat → Prop} {o : Nat} {ad : Nat → Nat} {dI : ClassId} {g : St} (a1 : Int64) (a2 : Int64) (a3 : Int64) : Ct l yX6_in cX6_in 6 (some .boolean) 0 0 D vwCl [(dI, .int)] A (tW o ad dI) [.long a1, .long a2, .long a3] g (QZ D vwCl A (tW o ad dI) (tF_in a1 a2 a3) g) := by
  generalize hf : tF_in a1 a2 a3 = z
  unfold tF_in at hf
  refine ct_intro (own := RX6) (lv0 := [(0, .long a1), (2, .long a2), (4, .long a3)]) (by decide) rfl (Nat.le_of_ble_eq_true rfl) rfl ?_
  intro p e s m args below meth c X hr
  refine tw_lload_n X dX6_in_0 rfl 0 rfl ?_
  refine tw_lload_n X dX6_in_1 rfl 1 rfl ?_
  refine tw_lcmp X dX6_in_2 ?_
  refine tw_if_lt (tgt := 17) X dX6_in_3 rfl hf (fun q2 hf => ?_) (fun q2 hf => ?_)
  · clear q2
    refine tw_iconst (v := 0) X dX6_in_17 rfl ?_
    exact tw_zret X hr (Or.inl rfl) hf rfl dX6_in_18
  · clear q2
    refine tw_lload_n X dX6_in_6 rfl 0 rfl ?_
    refine tw_lload X dX6_in_7 2 rfl ?_
    refine tw_lcmp X dX6_in_9 ?_
    refine tw_if_gt (tgt := 17) X dX6_in_10 rfl hf (fun q1 hf => ?_) (fun q1 hf => ?_)
    · clear q1
      refine tw_iconst (v := 0) X dX6_in_17 rfl ?_
      exact tw_zret X hr (Or.inl rfl) hf rfl dX6_in_18
    · clear q1
      refine tw_iconst (v := 1) X dX6_in_13 rfl ?_
      refine tw_goto (tgt := 18) X dX6_in_14 rfl ?_
      exact tw_zret X hr (Or.inr rfl) hf rfl dX6_in_18
noncomputable def tF_isThing (a1 : Int32) : Int32 :=
  (tF_in (a1).toInt64 (0 : Int64) (7 : Int64))
set_option maxHeartbeats 4000000 in
theorem tC_isThing {l : Launch} {D : va_G} {A : Nat → Prop} {o : Nat} {ad : Nat → Nat} {dI : ClassId} {g : St} (a1 : Int32) : Ct l yX6_isThing cX6_isThing 1 (some .boolean) 1 25 D vwCl [(dI, .int)] A (tW o ad dI) [.int a1] g (QZ D vwCl A (tW o ad dI) (tF_isThing a1) g) := by
  generalize hf : tF_isThing a1 = z
  unfold tF_isThing at hf
  refine ct_intro (own := RX6) (lv0 := [(0, .int a1)]) (by decide) rfl (Nat.le_of_ble_eq_true rfl) rfl ?_
  intro p e s m args below meth c X hr
  refine tw_iload_n X dX6_isThing_0 rfl 0 rfl ?_
  refine tw_i2l X dX6_isThing_1 ?_
  refine tw_lconst (v := 0) X dX6_isThing_2 rfl ?_
  refine tw_ldc2 (v := 7) X q1661 dX6_isThing_3 ?_
  refine tw_callSz (As := [.long (a1).toInt64, .long (0 : Int64), .long (7 : Int64)]) (st := []) X (tC_in (g := g) (a1).toInt64 (0 : Int64) (7 : Int64)) tG_in tI_in ⟨Nat.le_of_ble_eq_true rfl, Nat.le_of_ble_eq_true rfl⟩ ⟨Nat.zero_le _, Nat.zero_le _⟩ rfl rfl (Nat.le_of_ble_eq_true rfl) dX6_isThing_6 ?_
  intro hb1
  exact tw_zret X hr hb1 hf rfl dX6_isThing_9
noncomputable def tF_isPart (a1 : Int32) (a2 : Int32) : Int32 :=
  if a1 = (1 : Int32) then
    if (tF_isThing a2) = 0 then
      if a1 = (3 : Int32) then
        if (tF_in (a2).toInt64 (0 : Int64) (999 : Int64)) = 0 then
          (0 : Int32)
        else
          (1 : Int32)
      else
        (0 : Int32)
    else
      (1 : Int32)
  else
    if a1 = (2 : Int32) then
      if (tF_isThing a2) = 0 then
        if a1 = (3 : Int32) then
          if (tF_in (a2).toInt64 (0 : Int64) (999 : Int64)) = 0 then
            (0 : Int32)
          else
            (1 : Int32)
        else
          (0 : Int32)
      else
        (1 : Int32)
    else
      if a1 = (3 : Int32) then
        if (tF_in (a2).toInt64 (0 : Int64) (999 : Int64)) = 0 then
          (0 : Int32)
        else
          (1 : Int32)
      else
        (0 : Int32)
set_option maxHeartbeats 4000000 in
theorem tC_isPart {l : Launch} {D : va_G} {A : Nat → Prop} {o : Nat} {ad : Nat → Nat} {dI : ClassId} {g : St} (a1 : Int32) (a2 : Int32) : Ct l yX6_isPart cX6_isPart 2 (some .boolean) 2 45 D vwCl [(dI, .int)] A (tW o ad dI) [.int a1, .int a2] g (QZ D vwCl A (tW o ad dI) (tF_isPart a1 a2) g) := by
  generalize hf : tF_isPart a1 a2 = z
  unfold tF_isPart at hf
  refine ct_intro (own := RX6) (lv0 := [(0, .int a1), (1, .int a2)]) (by decide) rfl (Nat.le_of_ble_eq_true rfl) rfl ?_
  intro p e s m args below meth c X hr
  refine tw_iload_n X dX6_isPart_0 rfl 0 rfl ?_
  refine tw_iconst (v := 1) X dX6_isPart_1 rfl ?_
  refine tw_icmp_eq (tgt := 10) X dX6_isPart_2 rfl hf (fun q15 hf => ?_) (fun q15 hf => ?_)
  · clear q15
    refine tw_iload_n X dX6_isPart_10 rfl 1 rfl ?_
    refine tw_callSz (As := [.int a2]) (st := []) X (tC_isThing (g := g) a2) tG_isThing tI_isThing ⟨Nat.le_of_ble_eq_true rfl, Nat.le_of_ble_eq_true rfl⟩ ⟨Nat.zero_le _, Nat.zero_le _⟩ rfl rfl (Nat.le_of_ble_eq_true rfl) dX6_isPart_11 ?_
    intro hb1
    refine tw_if_ne (tgt := 34) X dX6_isPart_14 rfl hf (fun q5 hf => ?_) (fun q5 hf => ?_)
    · clear q5
      refine tw_iload_n X dX6_isPart_17 rfl 0 rfl ?_
      refine tw_iconst (v := 3) X dX6_isPart_18 rfl ?_
      refine tw_icmp_ne (tgt := 38) X dX6_isPart_19 rfl hf (fun q4 hf => ?_) (fun q4 hf => ?_)
      · clear q4
        refine tw_iload_n X dX6_isPart_22 rfl 1 rfl ?_
        refine tw_i2l X dX6_isPart_23 ?_
        refine tw_lconst (v := 0) X dX6_isPart_24 rfl ?_
        refine tw_ldc2 (v := 999) X q1665 dX6_isPart_25 ?_
        refine tw_callSz (As := [.long (a2).toInt64, .long (0 : Int64), .long (999 : Int64)]) (st := []) X (tC_in (g := g) (a2).toInt64 (0 : Int64) (999 : Int64)) tG_in tI_in ⟨Nat.le_of_ble_eq_true rfl, Nat.le_of_ble_eq_true rfl⟩ ⟨Nat.zero_le _, Nat.zero_le _⟩ rfl rfl (Nat.le_of_ble_eq_true rfl) dX6_isPart_28 ?_
        intro hb2
        refine tw_if_eq (tgt := 38) X dX6_isPart_31 rfl hf (fun q3 hf => ?_) (fun q3 hf => ?_)
        · clear q3
          refine tw_iconst (v := 0) X dX6_isPart_38 rfl ?_
          exact tw_zret X hr (Or.inl rfl) hf rfl dX6_isPart_39
        · clear q3
          refine tw_iconst (v := 1) X dX6_isPart_34 rfl ?_
          refine tw_goto (tgt := 39) X dX6_isPart_35 rfl ?_
          exact tw_zret X hr (Or.inr rfl) hf rfl dX6_isPart_39
      · clear q4
        refine tw_iconst (v := 0) X dX6_isPart_38 rfl ?_
        exact tw_zret X hr (Or.inl rfl) hf rfl dX6_isPart_39
    · clear q5
      refine tw_iconst (v := 1) X dX6_isPart_34 rfl ?_
      refine tw_goto (tgt := 39) X dX6_isPart_35 rfl ?_
      exact tw_zret X hr (Or.inr rfl) hf rfl dX6_isPart_39
  · clear q15
    refine tw_iload_n X dX6_isPart_5 rfl 0 rfl ?_
    refine tw_iconst (v := 2) X dX6_isPart_6 rfl ?_
    refine tw_icmp_ne (tgt := 17) X dX6_isPart_7 rfl hf (fun q14 hf => ?_) (fun q14 hf => ?_)
    · clear q14
      refine tw_iload_n X dX6_isPart_10 rfl 1 rfl ?_
      refine tw_callSz (As := [.int a2]) (st := []) X (tC_isThing (g := g) a2) tG_isThing tI_isThing ⟨Nat.le_of_ble_eq_true rfl, Nat.le_of_ble_eq_true rfl⟩ ⟨Nat.zero_le _, Nat.zero_le _⟩ rfl rfl (Nat.le_of_ble_eq_true rfl) dX6_isPart_11 ?_
      intro hb6
      refine tw_if_ne (tgt := 34) X dX6_isPart_14 rfl hf (fun q10 hf => ?_) (fun q10 hf => ?_)
      · clear q10
        refine tw_iload_n X dX6_isPart_17 rfl 0 rfl ?_
        refine tw_iconst (v := 3) X dX6_isPart_18 rfl ?_
        refine tw_icmp_ne (tgt := 38) X dX6_isPart_19 rfl hf (fun q9 hf => ?_) (fun q9 hf => ?_)
        · clear q9
          refine tw_iload_n X dX6_isPart_22 rfl 1 rfl ?_
          refine tw_i2l X dX6_isPart_23 ?_
          refine tw_lconst (v := 0) X dX6_isPart_24 rfl ?_
          refine tw_ldc2 (v := 999) X q1665 dX6_isPart_25 ?_
          refine tw_callSz (As := [.long (a2).toInt64, .long (0 : Int64), .long (999 : Int64)]) (st := []) X (tC_in (g := g) (a2).toInt64 (0 : Int64) (999 : Int64)) tG_in tI_in ⟨Nat.le_of_ble_eq_true rfl, Nat.le_of_ble_eq_true rfl⟩ ⟨Nat.zero_le _, Nat.zero_le _⟩ rfl rfl (Nat.le_of_ble_eq_true rfl) dX6_isPart_28 ?_
          intro hb7
          refine tw_if_eq (tgt := 38) X dX6_isPart_31 rfl hf (fun q8 hf => ?_) (fun q8 hf => ?_)
          · clear q8
            refine tw_iconst (v := 0) X dX6_isPart_38 rfl ?_
            exact tw_zret X hr (Or.inl rfl) hf rfl dX6_isPart_39
          · clear q8
            refine tw_iconst (v := 1) X dX6_isPart_34 rfl ?_
            refine tw_goto (tgt := 39) X dX6_isPart_35 rfl ?_
            exact tw_zret X hr (Or.inr rfl) hf rfl dX6_isPart_39
        · clear q9
          refine tw_iconst (v := 0) X dX6_isPart_38 rfl ?_
          exact tw_zret X hr (Or.inl rfl) hf rfl dX6_isPart_39
      · clear q10
        refine tw_iconst (v := 1) X dX6_isPart_34 rfl ?_
        refine tw_goto (tgt := 39) X dX6_isPart_35 rfl ?_
        exact tw_zret X hr (Or.inr rfl) hf rfl dX6_isPart_39
    · clear q14
      refine tw_iload_n X dX6_isPart_17 rfl 0 rfl ?_
      refine tw_iconst (v := 3) X dX6_isPart_18 rfl ?_
      refine tw_icmp_ne (tgt := 38) X dX6_isPart_19 rfl hf (fun q13 hf => ?_) (fun q13 hf => ?_)
      · clear q13
        refine tw_iload_n X dX6_isPart_22 rfl 1 rfl ?_
        refine tw_i2l X dX6_isPart_23 ?_
        refine tw_lconst (v := 0) X dX6_isPart_24 rfl ?_
        refine tw_ldc2 (v := 999) X q1665 dX6_isPart_25 ?_
        refine tw_callSz (As := [.long (a2).toInt64, .long (0 : Int64), .long (999 : Int64)]) (st := []) X (tC_in (g := g) (a2).toInt64 (0 : Int64) (999 : Int64)) tG_in tI_in ⟨Nat.le_of_ble_eq_true rfl, Nat.le_of_ble_eq_true rfl⟩ ⟨Nat.zero_le _, Nat.zero_le _⟩ rfl rfl (Nat.le_of_ble_eq_true rfl) dX6_isPart_28 ?_
        intro hb11
        refine tw_if_eq (tgt := 38) X dX6_isPart_31 rfl hf (fun q12 hf => ?_) (fun q12 hf => ?_)
        · clear q12
          refine tw_iconst (v := 0) X dX6_isPart_38 rfl ?_
          exact tw_zret X hr (Or.inl rfl) hf rfl dX6_isPart_39
        · clear q12
          refine tw_iconst (v := 1) X dX6_isPart_34 rfl ?_
          refine tw_goto (tgt := 39) X dX6_isPart_35 rfl ?_
          exact tw_zret X hr (Or.inr rfl) hf rfl dX6_isPart_39
      · clear q13
        refine tw_iconst (v := 0) X dX6_isPart_38 rfl ?_
        exact tw_zret X hr (Or.inl rfl) hf rfl dX6_isPart_39
noncomputable def tF_at (a1 : Int32) (a2 : Int32) : Int32 :=
  (((22 : Int32) + ((5 : Int32) * a1)) + a2)
set_option maxHeartbeats 4000000 in
theorem tC_at {l : Launch} {D : va_G} {A : Nat → Prop} {o : Nat} {ad : Nat → Nat} {dI : ClassId} {g : St} (a1 : Int32) (a2 : Int32) : Ct l yX6_at cX6_at 2 (some .int) 0 0 D vwCl [(dI, .int)] A (tW o ad dI) [.int a1, .int a2] g (QI D vwCl A (tW o ad dI) (tF_at a1 a2) g) := by
  generalize hf : tF_at a1 a2 = z
  unfold tF_at at hf
  refine ct_intro (own := RX6) (lv0 := [(0, .int a1), (1, .int a2)]) (by decide) rfl (Nat.le_of_ble_eq_true rfl) rfl ?_
  intro p e s m args below meth c X hr
  refine tw_bipush (v := 22) X dX6_at_0 rfl ?_
  refine tw_iconst (v := 5) X dX6_at_2 rfl ?_
  refine tw_iload_n X dX6_at_3 rfl 0 rfl ?_
  refine tw_imul X dX6_at_4 ?_
  refine tw_iadd X dX6_at_5 ?_
  refine tw_iload_n X dX6_at_6 rfl 1 rfl ?_
  refine tw_iadd X dX6_at_7 ?_
  exact tw_iret X hr hf rfl dX6_at_8
noncomputable def tF_isPerson (g : St) (a1 : Int32) : Option (Int32) :=
  (rd (g 1) 340 (0 : Int32)).bind fun x1 =>
  some (tF_in (a1).toInt64 (0 : Int64) ((x1 - (1 : Int32))).toInt64)
set_option maxHeartbeats 4000000 in
theorem tC_isPerson {l : Launch} {D : va_G} {A : Nat → Prop} {o : Nat} {ad : Nat → Nat} {dI : ClassId} {g : St} {a1 : Int32} {z : Int32} (hf : tF_isPerson g a1 = some z) : Ct l yX6_isPerson cX6_isPerson 2 (some .boolean) 1 25 D vwCl [(dI, .int)] A (tW o ad dI) [.ref o, .int a1] g (QZ D vwCl A (tW o ad dI) z g) := by
  unfold tF_isPerson at hf
  refine ct_intro (own := RX6) (lv0 := [(0, .ref o), (1, .int a1)]) (by decide) rfl (Nat.le_of_ble_eq_true rfl) rfl ?_
  intro p e s m args below meth c X hr
  refine tw_iload_n X dX6_isPerson_0 rfl 1 rfl ?_
  refine tw_i2l X dX6_isPerson_1 ?_
  refine tw_lconst (v := 0) X dX6_isPerson_2 rfl ?_
  refine tw_aload_n X dX6_isPerson_3 rfl 0 rfl ?_
  refine tg_s X  dX6_isPerson_4 ?_
  refine tw_iconst (v := 0) X dX6_isPerson_7 rfl ?_
  obtain ⟨x1, hx1, hf⟩ := bnd hf
  refine ta_s X hx1 dX6_isPerson_8 ?_
  refine tw_iconst (v := 1) X dX6_isPerson_9 rfl ?_
  refine tw_isub X dX6_isPerson_10 ?_
  refine tw_i2l X dX6_isPerson_11 ?_
  refine tw_callSz (As := [.long (a1).toInt64, .long (0 : Int64), .long ((x1 - (1 : Int32))).toInt64]) (st := []) X (tC_in (g := g) (a1).toInt64 (0 : Int64) ((x1 - (1 : Int32))).toInt64) tG_in tI_in ⟨Nat.le_of_ble_eq_true rfl, Nat.le_of_ble_eq_true rfl⟩ ⟨Nat.zero_le _, Nat.zero_le _⟩ rfl rfl (Nat.le_of_ble_eq_true rfl) dX6_isPerson_12 ?_
  intro hb2
  exact tw_zret X hr hb2 (Option.some.inj hf) rfl dX6_isPerson_15
noncomputable def tF_its (g : St) (a1 : Int32) (a2 : Int32) : Option (Int32) :=
  (rd (g 1) 340 (tF_at a1 a2)).bind fun x1 =>
  some x1
set_option maxHeartbeats 4000000 in
theorem tC_its {l : Launch} {D : va_G} {A : Nat → Prop} {o : Nat} {ad : Nat → Nat} {dI : ClassId} {g : St} {a1 : Int32} {a2 : Int32} {z : Int32} (hf : tF_its g a1 a2 = some z) : Ct l yX6_its cX6_its 3 (some .int) 1 21 D vwCl [(dI, .int)] A (tW o ad dI) [.ref o, .int a1, .int a2] g (QI D vwCl A (tW o ad dI) z g) := by
  unfold tF_its at hf
  refine ct_intro (own := RX6) (lv0 := [(0, .ref o), (1, .int a1), (2, .int a2)]) (by decide) rfl (Nat.le_of_ble_eq_true rfl) rfl ?_
  intro p e s m args below meth c X hr
  refine tw_aload_n X dX6_its_0 rfl 0 rfl ?_
  refine tg_s X  dX6_its_1 ?_
  refine tw_iload_n X dX6_its_4 rfl 1 rfl ?_
  refine tw_iload_n X dX6_its_5 rfl 2 rfl ?_
  refine tw_callSi (As := [.int a1, .int a2]) (st := [.ref (ad 0)]) X (tC_at (g := g) a1 a2) tG_at tI_at ⟨Nat.le_of_ble_eq_true rfl, Nat.le_of_ble_eq_true rfl⟩ ⟨Nat.zero_le _, Nat.zero_le _⟩ rfl rfl (Nat.le_of_ble_eq_true rfl) dX6_its_6 ?_
  obtain ⟨x1, hx1, hf⟩ := bnd hf
  refine ta_s X hx1 dX6_its_9 ?_
  exact tw_iret X hr (Option.some.inj hf) rfl dX6_its_10
noncomputable def tF_isUnder (a1 : Int32) (a2 : Int32) : Int32 :=
  if a2 = 0 then
    (1 : Int32)
  else
    if a1 = a2 then
      (1 : Int32)
    else
      if a2 = (2 : Int32) then
        if a1 = (3 : Int32) then
          (1 : Int32)
        else
          if a2 = (4 : Int32) then
            if a1 = (5 : Int32) then
              (1 : Int32)
            else
              (0 : Int32)
          else
            (0 : Int32)
      else
        if a2 = (4 : Int32) then
          if a1 = (5 : Int32) then
            (1 : Int32)
          else
            (0 : Int32)
        else
          (0 : Int32)
set_option maxHeartbeats 4000000 in
theorem tC_isUnder {l : Launch} {D : va_G} {A : Nat → Prop} {o : Nat} {ad : Nat → Nat} {dI : ClassId} {g : St} (a1 : Int32) (a2 : Int32) : Ct l yX6_isUnder cX6_isUnder 2 (some .boolean) 0 0 D vwCl [(dI, .int)] A (tW o ad dI) [.int a1, .int a2] g (QZ D vwCl A (tW o ad dI) (tF_isUnder a1 a2) g) := by
  generalize hf : tF_isUnder a1 a2 = z
  unfold tF_isUnder at hf
  refine ct_intro (own := RX6) (lv0 := [(0, .int a1), (1, .int a2)]) (by decide) rfl (Nat.le_of_ble_eq_true rfl) rfl ?_
  intro p e s m args below meth c X hr
  refine tw_iload_n X dX6_isUnder_0 rfl 1 rfl ?_
  refine tw_if_eq (tgt := 29) X dX6_isUnder_1 rfl hf (fun q8 hf => ?_) (fun q8 hf => ?_)
  · clear q8
    refine tw_iconst (v := 1) X dX6_isUnder_29 rfl ?_
    refine tw_goto (tgt := 34) X dX6_isUnder_30 rfl ?_
    exact tw_zret X hr (Or.inr rfl) hf rfl dX6_isUnder_34
  · clear q8
    refine tw_iload_n X dX6_isUnder_4 rfl 0 rfl ?_
    refine tw_iload_n X dX6_isUnder_5 rfl 1 rfl ?_
    refine tw_icmp_eq (tgt := 29) X dX6_isUnder_6 rfl hf (fun q7 hf => ?_) (fun q7 hf => ?_)
    · clear q7
      refine tw_iconst (v := 1) X dX6_isUnder_29 rfl ?_
      refine tw_goto (tgt := 34) X dX6_isUnder_30 rfl ?_
      exact tw_zret X hr (Or.inr rfl) hf rfl dX6_isUnder_34
    · clear q7
      refine tw_iload_n X dX6_isUnder_9 rfl 1 rfl ?_
      refine tw_iconst (v := 2) X dX6_isUnder_10 rfl ?_
      refine tw_icmp_ne (tgt := 19) X dX6_isUnder_11 rfl hf (fun q6 hf => ?_) (fun q6 hf => ?_)
      · clear q6
        refine tw_iload_n X dX6_isUnder_14 rfl 0 rfl ?_
        refine tw_iconst (v := 3) X dX6_isUnder_15 rfl ?_
        refine tw_icmp_eq (tgt := 29) X dX6_isUnder_16 rfl hf (fun q3 hf => ?_) (fun q3 hf => ?_)
        · clear q3
          refine tw_iconst (v := 1) X dX6_isUnder_29 rfl ?_
          refine tw_goto (tgt := 34) X dX6_isUnder_30 rfl ?_
          exact tw_zret X hr (Or.inr rfl) hf rfl dX6_isUnder_34
        · clear q3
          refine tw_iload_n X dX6_isUnder_19 rfl 1 rfl ?_
          refine tw_iconst (v := 4) X dX6_isUnder_20 rfl ?_
          refine tw_icmp_ne (tgt := 33) X dX6_isUnder_21 rfl hf (fun q2 hf => ?_) (fun q2 hf => ?_)
          · clear q2
            refine tw_iload_n X dX6_isUnder_24 rfl 0 rfl ?_
            refine tw_iconst (v := 5) X dX6_isUnder_25 rfl ?_
            refine tw_icmp_ne (tgt := 33) X dX6_isUnder_26 rfl hf (fun q1 hf => ?_) (fun q1 hf => ?_)
            · clear q1
              refine tw_iconst (v := 1) X dX6_isUnder_29 rfl ?_
              refine tw_goto (tgt := 34) X dX6_isUnder_30 rfl ?_
              exact tw_zret X hr (Or.inr rfl) hf rfl dX6_isUnder_34
            · clear q1
              refine tw_iconst (v := 0) X dX6_isUnder_33 rfl ?_
              exact tw_zret X hr (Or.inl rfl) hf rfl dX6_isUnder_34
          · clear q2
            refine tw_iconst (v := 0) X dX6_isUnder_33 rfl ?_
            exact tw_zret X hr (Or.inl rfl) hf rfl dX6_isUnder_34
      · clear q6
        refine tw_iload_n X dX6_isUnder_19 rfl 1 rfl ?_
        refine tw_iconst (v := 4) X dX6_isUnder_20 rfl ?_
        refine tw_icmp_ne (tgt := 33) X dX6_isUnder_21 rfl hf (fun q5 hf => ?_) (fun q5 hf => ?_)
        · clear q5
          refine tw_iload_n X dX6_isUnder_24 rfl 0 rfl ?_
          refine tw_iconst (v := 5) X dX6_isUnder_25 rfl ?_
          refine tw_icmp_ne (tgt := 33) X dX6_isUnder_26 rfl hf (fun q4 hf => ?_) (fun q4 hf => ?_)
          · clear q4
            refine tw_iconst (v := 1) X dX6_isUnder_29 rfl ?_
            refine tw_goto (tgt := 34) X dX6_isUnder_30 rfl ?_
            exact tw_zret X hr (Or.inr rfl) hf rfl dX6_isUnder_34
          · clear q4
            refine tw_iconst (v := 0) X dX6_isUnder_33 rfl ?_
            exact tw_zret X hr (Or.inl rfl) hf rfl dX6_isUnder_34
        · clear q5
          refine tw_iconst (v := 0) X dX6_isUnder_33 rfl ?_
          exact tw_zret X hr (Or.inl rfl) hf rfl dX6_isUnder_34
noncomputable def tF_isWhole (g : St) (a1 : Int32) : Option (Int32) :=
  (tF_its g a1 (1 : Int32)).bind fun x1 =>
  (tF_its g a1 (2 : Int32)).bind fun x2 =>
  if x1 = x2 then
    some (1 : Int32)
  else
    some (0 : Int32)
set_option maxHeartbeats 4000000 in
theorem tC_isWhole {l : Launch} {D : va_G} {A : Nat → Prop} {o : Nat} {ad : Nat → Nat} {dI : ClassId} {g : St} {a1 : Int32} {z : Int32} (hf : tF_isWhole g a1 = some z) : Ct l yX6_isWhole cX6_isWhole 2 (some .boolean) 2 43 D vwCl [(dI, .int)] A (tW o ad dI) [.ref o, .int a1] g (QZ D vwCl A (tW o ad dI) z g) := by
  unfold tF_isWhole at hf
  refine ct_intro (own := RX6) (lv0 := [(0, .ref o), (1, .int a1)]) (by decide) rfl (Nat.le_of_ble_eq_true rfl) rfl ?_
  intro p e s m args below meth c X hr
  refine tw_aload_n X dX6_isWhole_0 rfl 0 rfl ?_
  refine tw_iload_n X dX6_isWhole_1 rfl 1 rfl ?_
  refine tw_iconst (v := 1) X dX6_isWhole_2 rfl ?_
  obtain ⟨x1, hx1, hf⟩ := bnd hf
  refine tw_callVi (As := [.int a1, .int (1 : Int32)]) (st := []) X (tC_its hx1) tG_its tI_its ⟨Nat.le_of_ble_eq_true rfl, Nat.le_of_ble_eq_true rfl⟩ ⟨Nat.zero_le _, Nat.zero_le _⟩ 0 rfl rfl rfl rfl (Nat.le_of_ble_eq_true rfl) dX6_isWhole_3 ?_
  refine tw_aload_n X dX6_isWhole_6 rfl 0 rfl ?_
  refine tw_iload_n X dX6_isWhole_7 rfl 1 rfl ?_
  refine tw_iconst (v := 2) X dX6_isWhole_8 rfl ?_
  obtain ⟨x2, hx2, hf⟩ := bnd hf
  refine tw_callVi (As := [.int a1, .int (2 : Int32)]) (st := [.int x1]) X (tC_its hx2) tG_its tI_its ⟨Nat.le_of_ble_eq_true rfl, Nat.le_of_ble_eq_true rfl⟩ ⟨Nat.zero_le _, Nat.zero_le _⟩ 0 rfl rfl rfl rfl (Nat.le_of_ble_eq_true rfl) dX6_isWhole_9 ?_
  refine tw_icmp_ne (tgt := 19) X dX6_isWhole_12 rfl hf (fun q3 hf => ?_) (fun q3 hf => ?_)
  · clear q3
    refine tw_iconst (v := 1) X dX6_isWhole_15 rfl ?_
    refine tw_goto (tgt := 20) X dX6_isWhole_16 rfl ?_
    exact tw_zret X hr (Or.inr rfl) (Option.some.inj hf) rfl dX6_isWhole_20
  · clear q3
    refine tw_iconst (v := 0) X dX6_isWhole_19 rfl ?_
    exact tw_zret X hr (Or.inl rfl) (Option.some.inj hf) rfl dX6_isWhole_20
noncomputable def tF_ones (a1 : Int32) : Option (Int32) :=
  iter (L := Int32 × Int32) (T := Int32) (un2 fun s1a s1b => 
    if s1b = 0 then
      some (.inr s1a)
    else
      some (.inl ((s1a + (1 : Int32)), (s1b &&& (s1b - (1 : Int32)))))) ((0 : Int32), a1)
set_option maxHeartbeats 4000000 in
theorem tC_ones {l : Launch} {D : va_G} {A : Nat → Prop} {o : Nat} {ad : Nat → Nat} {dI : ClassId} {g : St} {a1 : Int32} {z : Int32} (hf : tF_ones a1 = some z) : Ct l yX6_ones cX6_ones 3 (some .int) 0 0 D vwCl [(dI, .int)] A (tW o ad dI) [.int a1] g (QI D vwCl A (tW o ad dI) z g) := by
  unfold tF_ones at hf
  refine ct_intro (own := RX6) (lv0 := [(0, .int a1)]) (by decide) rfl (Nat.le_of_ble_eq_true rfl) rfl ?_
  intro p e s m args below meth c X hr
  refine tw_iconst (v := 0) X dX6_ones_0 rfl ?_
  refine tw_istore_n (lv' := [(1, .int (0 : Int32)), (0, .int a1)]) X dX6_ones_1 rfl (by decide) rfl ?_
  refine tw_iload_n X dX6_ones_2 rfl 1 rfl ?_
  refine tw_istore_n (lv' := [(2, .int a1), (1, .int (0 : Int32)), (0, .int a1)]) X dX6_ones_3 rfl (by decide) rfl ?_
  refine tw_sub [1, 0] (lv' := [(1, .int (0 : Int32)), (2, .int a1)]) rfl ?_
  refine it_walk (P := un2 fun s1a s1b => TW p l e (rom 0 0) s m args below meth c (MQ below (QI D vwCl A (tW o ad dI) z g) args s 0 0 A) D vwCl A (tW o ad dI) 3 0 0 g 4 [(1, .int s1a), (2, .int s1b)] []) hf ?_
  rintro ⟨s1a, s1b⟩ zz5 hf hl2
  dsimp only [un2] at hf ⊢
  refine tw_iload_n X dX6_ones_4 rfl 1 rfl ?_
  refine tw_if_eq (tgt := 20) X dX6_ones_5 rfl hf (fun q4 hf => ?_) (fun q4 hf => ?_)
  · clear q4
    refine tw_iload_n X dX6_ones_20 rfl 0 rfl ?_
    have hf3 := leafR hf hl2
    exact tw_iret X hr (Option.some.inj hf3) rfl dX6_ones_21
  · clear q4
    refine tw_iinc (q := 0) (v := (s1a + (1 : Int32))) (lv' := [(1, .int (s1a + (1 : Int32))), (2, .int s1b)]) X dX6_ones_8 rfl rfl (by decide) rfl ?_
    refine tw_iload_n X dX6_ones_11 rfl 1 rfl ?_
    refine tw_iload_n X dX6_ones_12 rfl 1 rfl ?_
    refine tw_iconst (v := 1) X dX6_ones_13 rfl ?_
    refine tw_isub X dX6_ones_14 ?_
    refine tw_iand X dX6_ones_15 ?_
    refine tw_istore_n (lv' := [(2, .int (s1b &&& (s1b - (1 : Int32)))), (1, .int (s1a + (1 : Int32)))]) X dX6_ones_16 rfl (by decide) rfl ?_
    refine tw_goto (tgt := 4) X dX6_ones_17 rfl ?_
    refine tw_sub [1, 0] (lv' := [(1, .int (s1a + (1 : Int32))), (2, .int (s1b &&& (s1b - (1 : Int32))))]) rfl ?_
    have hL := leafL hf hl2
    exact hL
noncomputable def tF_isHolding (a1 : Int32) (a2 : Int32) (a3 : Int32) : Int32 :=
  if a1 = (-21 : Int32) then
    if a2 = (1 : Int32) then
      if a3 = (1 : Int32) then
        (1 : Int32)
      else
        (0 : Int32)
    else
      (0 : Int32)
  else if a1 = (-13 : Int32) then
    if a2 ≤ a3 then
      (0 : Int32)
    else
      (1 : Int32)
  else if a1 = (-12 : Int32) then
    if a2 = a3 then
      (1 : Int32)
    else
      (0 : Int32)
  else if a1 = (-11 : Int32) then
    if a3 ≤ a2 then
      (0 : Int32)
    else
      (1 : Int32)
  else 
    if a2 = (1 : Int32) then
      (1 : Int32)
    else
      if a3 = (1 : Int32) then
        (1 : Int32)
      else
        (0 : Int32)
set_option maxHeartbeats 4000000 in
theorem tC_isHolding {l : Launch} {D : va_G} {A : Nat → Prop} {o : Nat} {ad : Nat → Nat} {dI : ClassId} {g : St} (a1 : Int32) (a2 : Int32) (a3 : Int32) : Ct l yX6_isHolding cX6_isHolding 3 (some .boolean) 0 0 D vwCl [(dI, .int)] A (tW o ad dI) [.int a1, .int a2, .int a3] g (QZ D vwCl A (tW o ad dI) (tF_isHolding a1 a2 a3) g) := by
  generalize hf : tF_isHolding a1 a2 a3 = z
  unfold tF_isHolding at hf
  refine ct_intro (own := RX6) (lv0 := [(0, .int a1), (1, .int a2), (2, .int a3)]) (by decide) rfl (Nat.le_of_ble_eq_true rfl) rfl ?_
  intro p e s m args below meth c X hr
  refine tw_iload_n X dX6_isHolding_0 rfl 0 rfl ?_
  by_cases w3 : a1 = (-21 : Int32)
  · rw [if_pos w3] at hf
    refine tw_lookup (off := 76) (tgt := 77) X dX6_isHolding_1 (by decide) (by rw [w3]; decide) rfl ?_
    refine tw_iload_n X dX6_isHolding_77 rfl 1 rfl ?_
    refine tw_iconst (v := 1) X dX6_isHolding_78 rfl ?_
    refine tw_icmp_ne (tgt := 91) X dX6_isHolding_79 rfl hf (fun q2 hf => ?_) (fun q2 hf => ?_)
    · clear q2
      refine tw_iload_n X dX6_isHolding_82 rfl 2 rfl ?_
      refine tw_iconst (v := 1) X dX6_isHolding_83 rfl ?_
      refine tw_icmp_ne (tgt := 91) X dX6_isHolding_84 rfl hf (fun q1 hf => ?_) (fun q1 hf => ?_)
      · clear q1
        refine tw_iconst (v := 1) X dX6_isHolding_87 rfl ?_
        refine tw_goto (tgt := 92) X dX6_isHolding_88 rfl ?_
        exact tw_zret X hr (Or.inr rfl) hf rfl dX6_isHolding_92
      · clear q1
        refine tw_iconst (v := 0) X dX6_isHolding_91 rfl ?_
        exact tw_zret X hr (Or.inl rfl) hf rfl dX6_isHolding_92
    · clear q2
      refine tw_iconst (v := 0) X dX6_isHolding_91 rfl ?_
      exact tw_zret X hr (Or.inl rfl) hf rfl dX6_isHolding_92
  · rw [if_neg w3] at hf
    by_cases w5 : a1 = (-13 : Int32)
    · rw [if_pos w5] at hf
      refine tw_lookup (off := 65) (tgt := 66) X dX6_isHolding_1 (by decide) (by rw [w5]; decide) rfl ?_
      refine tw_iload_n X dX6_isHolding_66 rfl 1 rfl ?_
      refine tw_iload_n X dX6_isHolding_67 rfl 2 rfl ?_
      refine tw_icmp_le (tgt := 75) X dX6_isHolding_68 rfl hf (fun q4 hf => ?_) (fun q4 hf => ?_)
      · clear q4
        refine tw_iconst (v := 0) X dX6_isHolding_75 rfl ?_
        exact tw_zret X hr (Or.inl rfl) hf rfl dX6_isHolding_76
      · clear q4
        refine tw_iconst (v := 1) X dX6_isHolding_71 rfl ?_
        refine tw_goto (tgt := 76) X dX6_isHolding_72 rfl ?_
        exact tw_zret X hr (Or.inr rfl) hf rfl dX6_isHolding_76
    · rw [if_neg w5] at hf
      by_cases w7 : a1 = (-12 : Int32)
      · rw [if_pos w7] at hf
        refine tw_lookup (off := 54) (tgt := 55) X dX6_isHolding_1 (by decide) (by rw [w7]; decide) rfl ?_
        refine tw_iload_n X dX6_isHolding_55 rfl 1 rfl ?_
        refine tw_iload_n X dX6_isHolding_56 rfl 2 rfl ?_
        refine tw_icmp_ne (tgt := 64) X dX6_isHolding_57 rfl hf (fun q6 hf => ?_) (fun q6 hf => ?_)
        · clear q6
          refine tw_iconst (v := 1) X dX6_isHolding_60 rfl ?_
          refine tw_goto (tgt := 65) X dX6_isHolding_61 rfl ?_
          exact tw_zret X hr (Or.inr rfl) hf rfl dX6_isHolding_65
        · clear q6
          refine tw_iconst (v := 0) X dX6_isHolding_64 rfl ?_
          exact tw_zret X hr (Or.inl rfl) hf rfl dX6_isHolding_65
      · rw [if_neg w7] at hf
        by_cases w9 : a1 = (-11 : Int32)
        · rw [if_pos w9] at hf
          refine tw_lookup (off := 43) (tgt := 44) X dX6_isHolding_1 (by decide) (by rw [w9]; decide) rfl ?_
          refine tw_iload_n X dX6_isHolding_44 rfl 1 rfl ?_
          refine tw_iload_n X dX6_isHolding_45 rfl 2 rfl ?_
          refine tw_icmp_ge (tgt := 53) X dX6_isHolding_46 rfl hf (fun q8 hf => ?_) (fun q8 hf => ?_)
          · clear q8
            refine tw_iconst (v := 0) X dX6_isHolding_53 rfl ?_
            exact tw_zret X hr (Or.inl rfl) hf rfl dX6_isHolding_54
          · clear q8
            refine tw_iconst (v := 1) X dX6_isHolding_49 rfl ?_
            refine tw_goto (tgt := 54) X dX6_isHolding_50 rfl ?_
            exact tw_zret X hr (Or.inr rfl) hf rfl dX6_isHolding_54
        · rw [if_neg w9] at hf
          refine tw_lookup (off := 92) (tgt := 93) X dX6_isHolding_1 (by decide) (by show Op.lookupswitch.offset [(-21, 76), (-13, 65), (-12, 54), (-11, 43)] 92 _ = _; rw [lv_osw w3 (a := -21) (by decide)]; rw [lv_osw w5 (a := -13) (by decide)]; rw [lv_osw w7 (a := -12) (by decide)]; rw [lv_osw w9 (a := -11) (by decide)]; rfl) rfl ?_
          refine tw_iload_n X dX6_isHolding_93 rfl 1 rfl ?_
          refine tw_iconst (v := 1) X dX6_isHolding_94 rfl ?_
          refine tw_icmp_eq (tgt := 103) X dX6_isHolding_95 rfl hf (fun q11 hf => ?_) (fun q11 hf => ?_)
          · clear q11
            refine tw_iconst (v := 1) X dX6_isHolding_103 rfl ?_
            refine tw_goto (tgt := 108) X dX6_isHolding_104 rfl ?_
            exact tw_zret X hr (Or.inr rfl) hf rfl dX6_isHolding_108
          · clear q11
            refine tw_iload_n X dX6_isHolding_98 rfl 2 rfl ?_
            refine tw_iconst (v := 1) X dX6_isHolding_99 rfl ?_
            refine tw_icmp_ne (tgt := 107) X dX6_isHolding_100 rfl hf (fun q10 hf => ?_) (fun q10 hf => ?_)
            · clear q10
              refine tw_iconst (v := 1) X dX6_isHolding_103 rfl ?_
              refine tw_goto (tgt := 108) X dX6_isHolding_104 rfl ?_
              exact tw_zret X hr (Or.inr rfl) hf rfl dX6_isHolding_108
            · clear q10
              refine tw_iconst (v := 0) X dX6_isHolding_107 rfl ?_
              exact tw_zret X hr (Or.inl rfl) hf rfl dX6_isHolding_108
noncomputable def tF_atLeast (a1 : Int32) : Int32 :=
  if 0 ≤ a1 then
    a1
  else
    (0 : Int32)
set_option maxHeartbeats 4000000 in
theorem tC_atLeast {l : Launch} {D : va_G} {A : Nat → Prop} {o : Nat} {ad : Nat → Nat} {dI : ClassId} {g : St} (a1 : Int32) : Ct l yX6_atLeast cX6_atLeast 1 (some .int) 0 0 D vwCl [(dI, .int)] A (tW o ad dI) [.int a1] g (QI D vwCl A (tW o ad dI) (tF_atLeast a1) g) := by
  generalize hf : tF_atLeast a1 = z
  unfold tF_atLeast at hf
  refine ct_intro (own := RX6) (lv0 := [(0, .int a1)]) (by decide) rfl (Nat.le_of_ble_eq_true rfl) rfl ?_
  intro p e s m args below meth c X hr
  refine tw_iload_n X dX6_atLeast_0 rfl 0 rfl ?_
  refine tw_if_ge (tgt := 8) X dX6_atLeast_1 rfl hf (fun q1 hf => ?_) (fun q1 hf => ?_)
  · clear q1
    refine tw_iload_n X dX6_atLeast_8 rfl 0 rfl ?_
    exact tw_iret X hr hf rfl dX6_atLeast_9
  · clear q1
    refine tw_iconst (v := 0) X dX6_atLeast_4 rfl ?_
    refine tw_goto (tgt := 9) X dX6_atLeast_5 rfl ?_
    exact tw_iret X hr hf rfl dX6_atLeast_9
noncomputable def tF_becomes (g : St) (a1 : Int32) (a2 : Int32) : Option (Int32 × St) :=
  (rd (g 1) 340 a1).bind fun x1 =>
  (wr g 1 340 a1 a2).bind fun g2 =>
  some (x1, g2)
set_option maxHeartbeats 4000000 in
theorem tC_becomes {l : Launch} {D : va_G} {A : Nat → Prop} {o : Nat} {ad : Nat → Nat} {dI : ClassId} {g : St} {a1 : Int32} {a2 : Int32} {z : Int32 × St} (hf : tF_becomes g a1 a2 = some z) : Ct l yX6_becomes cX6_becomes 4 (some .int) 0 0 D vwCl [(dI, .int)] A (tW o ad dI) [.ref o, .int a1, .int a2] g (QI D vwCl A (tW o ad dI) z.1 z.2) := by
  unfold tF_becomes at hf
  refine ct_intro (own := RX6) (lv0 := [(0, .ref o), (1, .int a1), (2, .int a2)]) (by decide) rfl (Nat.le_of_ble_eq_true rfl) rfl ?_
  intro p e s m args below meth c X hr
  refine tw_aload_n X dX6_becomes_0 rfl 0 rfl ?_
  refine tg_s X  dX6_becomes_1 ?_
  refine tw_iload_n X dX6_becomes_4 rfl 1 rfl ?_
  obtain ⟨x1, hx1, hf⟩ := bnd hf
  refine ta_s X hx1 dX6_becomes_5 ?_
  refine tw_istore_n (lv' := [(3, .int x1), (0, .ref o), (1, .int a1), (2, .int a2)]) X dX6_becomes_6 rfl (by decide) rfl ?_
  refine tw_aload_n X dX6_becomes_7 rfl 1 rfl ?_
  refine tg_s X  dX6_becomes_8 ?_
  refine tw_iload_n X dX6_becomes_11 rfl 2 rfl ?_
  refine tw_iload_n X dX6_becomes_12 rfl 3 rfl ?_
  obtain ⟨g2, hg2, hf⟩ := bnd hf
  refine ts_s X hg2 dX6_becomes_13 ?_
  refine tw_iload_n X dX6_becomes_14 rfl 0 rfl ?_
  exact tw_iret X hr (prj1 hf) (prj2 hf) dX6_becomes_15
noncomputable def tF_doMeet (g : St) (a1 : Int32) (a2 : Int32) : Option (Int32) :=
  (tF_its g a1 (4 : Int32)).bind fun x1 =>
  if ((x1 >>> (a2 &&& 31)) &&& (1 : Int32)) = (1 : Int32) then
    some (1 : Int32)
  else
    some (0 : Int32)
set_option maxHeartbeats 4000000 in
theorem tC_doMeet {l : Launch} {D : va_G} {A : Nat → Prop} {o : Nat} {ad : Nat → Nat} {dI : ClassId} {g : St} {a1 : Int32} {a2 : Int32} {z : Int32} (hf : tF_doMeet g a1 a2 = some z) : Ct l yX6_doMeet cX6_doMeet 3 (some .boolean) 2 43 D vwCl [(dI, .int)] A (tW o ad dI) [.ref o, .int a1, .int a2] g (QZ D vwCl A (tW o ad dI) z g) := by
  unfold tF_doMeet at hf
  refine ct_intro (own := RX6) (lv0 := [(0, .ref o), (1, .int a1), (2, .int a2)]) (by decide) rfl (Nat.le_of_ble_eq_true rfl) rfl ?_
  intro p e s m args below meth c X hr
  refine tw_aload_n X dX6_doMeet_0 rfl 0 rfl ?_
  refine tw_iload_n X dX6_doMeet_1 rfl 1 rfl ?_
  refine tw_iconst (v := 4) X dX6_doMeet_2 rfl ?_
  obtain ⟨x1, hx1, hf⟩ := bnd hf
  refine tw_callVi (As := [.int a1, .int (4 : Int32)]) (st := []) X (tC_its hx1) tG_its tI_its ⟨Nat.le_of_ble_eq_true rfl, Nat.le_of_ble_eq_true rfl⟩ ⟨Nat.zero_le _, Nat.zero_le _⟩ 0 rfl rfl rfl rfl (Nat.le_of_ble_eq_true rfl) dX6_doMeet_3 ?_
  refine tw_iload_n X dX6_doMeet_6 rfl 2 rfl ?_
  refine tw_ishr X dX6_doMeet_7 ?_
  refine tw_iconst (v := 1) X dX6_doMeet_8 rfl ?_
  refine tw_iand X dX6_doMeet_9 ?_
  refine tw_iconst (v := 1) X dX6_doMeet_10 rfl ?_
  refine tw_icmp_ne (tgt := 18) X dX6_doMeet_11 rfl hf (fun q2 hf => ?_) (fun q2 hf => ?_)
  · clear q2
    refine tw_iconst (v := 1) X dX6_doMeet_14 rfl ?_
    refine tw_goto (tgt := 19) X dX6_doMeet_15 rfl ?_
    exact tw_zret X hr (Or.inr rfl) (Option.some.inj hf) rfl dX6_doMeet_19
  · clear q2
    refine tw_iconst (v := 0) X dX6_doMeet_18 rfl ?_
    exact tw_zret X hr (Or.inl rfl) (Option.some.inj hf) rfl dX6_doMeet_19
noncomputable def tF_lets (g : St) (a1 : Int32) (a2 : Int32) (a3 : Int32) : Option (St) :=
  (tF_its g a1 (4 : Int32)).bind fun x1 =>
  if a3 = 0 then
    (wr g 1 340 (tF_at a1 (4 : Int32)) (x1 &&& (((1 : Int32) <<< (a2 &&& 31)) ^^^ (-1 : Int32)))).bind fun g2 =>
    some g2
  else
    (wr g 1 340 (tF_at a1 (4 : Int32)) (x1 ||| ((1 : Int32) <<< (a2 &&& 31)))).bind fun g3 =>
    some g3
set_option maxHeartbeats 4000000 in
theorem tC_lets {l : Launch} {D : va_G} {A : Nat → Prop} {o : Nat} {ad : Nat → Nat} {dI : ClassId} {g : St} {a1 : Int32} {a2 : Int32} {a3 : Int32} {z : St} (hf : tF_lets g a1 a2 a3 = some z) : Ct l yX6_lets cX6_lets 5 none 2 43 D vwCl [(dI, .int)] A (tW o ad dI) [.ref o, .int a1, .int a2, .int a3] g (QV D vwCl A (tW o ad dI) z) := by
  unfold tF_lets at hf
  refine ct_intro (own := RX6) (lv0 := [(0, .ref o), (1, .int a1), (2, .int a2), (3, .int a3)]) (by decide) rfl (Nat.le_of_ble_eq_true rfl) rfl ?_
  intro p e s m args below meth c X hr
  refine tw_aload_n X dX6_lets_0 rfl 0 rfl ?_
  refine tw_iload_n X dX6_lets_1 rfl 1 rfl ?_
  refine tw_iconst (v := 4) X dX6_lets_2 rfl ?_
  obtain ⟨x1, hx1, hf⟩ := bnd hf
  refine tw_callVi (As := [.int a1, .int (4 : Int32)]) (st := []) X (tC_its hx1) tG_its tI_its ⟨Nat.le_of_ble_eq_true rfl, Nat.le_of_ble_eq_true rfl⟩ ⟨Nat.zero_le _, Nat.zero_le _⟩ 0 rfl rfl rfl rfl (Nat.le_of_ble_eq_true rfl) dX6_lets_3 ?_
  refine tw_istore (lv' := [(4, .int x1), (0, .ref o), (1, .int a1), (2, .int a2), (3, .int a3)]) X dX6_lets_6 (by decide) rfl ?_
  refine tw_aload_n X dX6_lets_8 rfl 1 rfl ?_
  refine tg_s X  dX6_lets_9 ?_
  refine tw_iload_n X dX6_lets_12 rfl 2 rfl ?_
  refine tw_iconst (v := 4) X dX6_lets_13 rfl ?_
  refine tw_callSi (As := [.int a1, .int (4 : Int32)]) (st := [.ref (ad 0)]) X (tC_at (g := g) a1 (4 : Int32)) tG_at tI_at ⟨Nat.le_of_ble_eq_true rfl, Nat.le_of_ble_eq_true rfl⟩ ⟨Nat.zero_le _, Nat.zero_le _⟩ rfl rfl (Nat.le_of_ble_eq_true rfl) dX6_lets_14 ?_
  refine tw_iload_n X dX6_lets_17 rfl 4 rfl ?_
  refine tw_if_eq (tgt := 30) X dX6_lets_18 rfl hf (fun q4 hf => ?_) (fun q4 hf => ?_)
  · clear q4
    refine tw_iload X dX6_lets_30 0 rfl ?_
    refine tw_iconst (v := 1) X dX6_lets_32 rfl ?_
    refine tw_iload_n X dX6_lets_33 rfl 3 rfl ?_
    refine tw_ishl X dX6_lets_34 ?_
    refine tw_iconst (v := -1) X dX6_lets_35 rfl ?_
    refine tw_ixor X dX6_lets_36 ?_
    refine tw_iand X dX6_lets_37 ?_
    obtain ⟨g2, hg2, hf⟩ := bnd hf
    refine ts_s X hg2 dX6_lets_38 ?_
    exact tw_vret X hr (Option.some.inj hf) dX6_lets_39
  · clear q4
    refine tw_iload X dX6_lets_21 0 rfl ?_
    refine tw_iconst (v := 1) X dX6_lets_23 rfl ?_
    refine tw_iload_n X dX6_lets_24 rfl 3 rfl ?_
    refine tw_ishl X dX6_lets_25 ?_
    refine tw_ior X dX6_lets_26 ?_
    refine tw_goto (tgt := 38) X dX6_lets_27 rfl ?_
    obtain ⟨g3, hg3, hf⟩ := bnd hf
    refine ts_s X hg3 dX6_lets_38 ?_
    exact tw_vret X hr (Option.some.inj hf) dX6_lets_39
noncomputable def tF_worth (g : St) (a1 : Int32) (a2 : Int32) : Option (Int32 × St) :=
  if (tF_isThing a1) = 0 then
    some ((-1 : Int32), g)
  else
    if (tF_in (a2).toInt64 (0 : Int64) (99 : Int64)) = 0 then
      some ((-1 : Int32), g)
    else
      (tF_becomes g ((6 : Int32) + a1) a2).bind (un2 fun y3a y3b =>
      some (y3a, y3b))
set_option maxHeartbeats 4000000 in
theorem tC_worth {l : Launch} {D : va_G} {A : Nat → Prop} {o : Nat} {ad : Nat → Nat} {dI : ClassId} {g : St} {a1 : Int32} {a2 : Int32} {z : Int32 × St} (hf : tF_worth g a1 a2 = some z) : Ct l yX6_worth cX6_worth 3 (some .int) 2 45 D vwCl [(dI, .int)] A (tW o ad dI) [.ref o, .int a1, .int a2] g (QI D vwCl A (tW o ad dI) z.1 z.2) := by
  unfold tF_worth at hf
  refine ct_intro (own := RX6) (lv0 := [(0, .ref o), (1, .int a1), (2, .int a2)]) (by decide) rfl (Nat.le_of_ble_eq_true rfl) rfl ?_
  intro p e s m args below meth c X hr
  refine tw_iload_n X dX6_worth_0 rfl 1 rfl ?_
  refine tw_callSz (As := [.int a1]) (st := []) X (tC_isThing (g := g) a1) tG_isThing tI_isThing ⟨Nat.le_of_ble_eq_true rfl, Nat.le_of_ble_eq_true rfl⟩ ⟨Nat.zero_le _, Nat.zero_le _⟩ rfl rfl (Nat.le_of_ble_eq_true rfl) dX6_worth_1 ?_
  intro hb1
  refine tw_if_eq (tgt := 31) X dX6_worth_4 rfl hf (fun q5 hf => ?_) (fun q5 hf => ?_)
  · clear q5
    refine tw_iconst (v := -1) X dX6_worth_31 rfl ?_
    exact tw_iret X hr (prj1 hf) (prj2 hf) dX6_worth_32
  · clear q5
    refine tw_iload_n X dX6_worth_7 rfl 2 rfl ?_
    refine tw_i2l X dX6_worth_8 ?_
    refine tw_lconst (v := 0) X dX6_worth_9 rfl ?_
    refine tw_ldc2 (v := 99) X q1742 dX6_worth_10 ?_
    refine tw_callSz (As := [.long (a2).toInt64, .long (0 : Int64), .long (99 : Int64)]) (st := []) X (tC_in (g := g) (a2).toInt64 (0 : Int64) (99 : Int64)) tG_in tI_in ⟨Nat.le_of_ble_eq_true rfl, Nat.le_of_ble_eq_true rfl⟩ ⟨Nat.zero_le _, Nat.zero_le _⟩ rfl rfl (Nat.le_of_ble_eq_true rfl) dX6_worth_13 ?_
    intro hb2
    refine tw_if_eq (tgt := 31) X dX6_worth_16 rfl hf (fun q4 hf => ?_) (fun q4 hf => ?_)
    · clear q4
      refine tw_iconst (v := -1) X dX6_worth_31 rfl ?_
      exact tw_iret X hr (prj1 hf) (prj2 hf) dX6_worth_32
    · clear q4
      refine tw_aload_n X dX6_worth_19 rfl 0 rfl ?_
      refine tw_bipush (v := 6) X dX6_worth_20 rfl ?_
      refine tw_iload_n X dX6_worth_22 rfl 1 rfl ?_
      refine tw_iadd X dX6_worth_23 ?_
      refine tw_iload_n X dX6_worth_24 rfl 2 rfl ?_
      obtain ⟨⟨y3a, y3b⟩, hy3, hf⟩ := bnd hf
      dsimp only [un2] at hf
      refine tw_callVi (As := [.int ((6 : Int32) + a1), .int a2]) (st := []) X (tC_becomes hy3) tG_becomes tI_becomes ⟨Nat.le_of_ble_eq_true rfl, Nat.le_of_ble_eq_true rfl⟩ ⟨Nat.zero_le _, Nat.zero_le _⟩ 0 rfl rfl rfl rfl (Nat.le_of_ble_eq_true rfl) dX6_worth_25 ?_
      refine tw_goto (tgt := 32) X dX6_worth_28 rfl ?_
      exact tw_iret X hr (prj1 hf) (prj2 hf) dX6_worth_32
noncomputable def tF_jar (g : St) (a1 : Int32) (a2 : Int32) : Option (Int32 × St) :=
  if (tF_isThing a1) = 0 then
    some ((-1 : Int32), g)
  else
    if (tF_in (a2).toInt64 (0 : Int64) (9 : Int64)) = 0 then
      some ((-1 : Int32), g)
    else
      (tF_becomes g ((14 : Int32) + a1) a2).bind (un2 fun y3a y3b =>
      some (y3a, y3b))
set_option maxHeartbeats 4000000 in
theorem tC_jar {l : Launch} {D : va_G} {A : Nat → Prop} {o : Nat} {ad : Nat → Nat} {dI : ClassId} {g : St} {a1 : Int32} {a2 : Int32} {z : Int32 × St} (hf : tF_jar g a1 a2 = some z) : Ct l yX6_jar cX6_jar 3 (some .int) 2 45 D vwCl [(dI, .int)] A (tW o ad dI) [.ref o, .int a1, .int a2] g (QI D vwCl A (tW o ad dI) z.1 z.2) := by
  unfold tF_jar at hf
  refine ct_intro (own := RX6) (lv0 := [(0, .ref o), (1, .int a1), (2, .int a2)]) (by decide) rfl (Nat.le_of_ble_eq_true rfl) rfl ?_
  intro p e s m args below meth c X hr
  refine tw_iload_n X dX6_jar_0 rfl 1 rfl ?_
  refine tw_callSz (As := [.int a1]) (st := []) X (tC_isThing (g := g) a1) tG_isThing tI_isThing ⟨Nat.le_of_ble_eq_true rfl, Nat.le_of_ble_eq_true rfl⟩ ⟨Nat.zero_le _, Nat.zero_le _⟩ rfl rfl (Nat.le_of_ble_eq_true rfl) dX6_jar_1 ?_
  intro hb1
  refine tw_if_eq (tgt := 31) X dX6_jar_4 rfl hf (fun q5 hf => ?_) (fun q5 hf => ?_)
  · clear q5
    refine tw_iconst (v := -1) X dX6_jar_31 rfl ?_
    exact tw_iret X hr (prj1 hf) (prj2 hf) dX6_jar_32
  · clear q5
    refine tw_iload_n X dX6_jar_7 rfl 2 rfl ?_
    refine tw_i2l X dX6_jar_8 ?_
    refine tw_lconst (v := 0) X dX6_jar_9 rfl ?_
    refine tw_ldc2 (v := 9) X q1747 dX6_jar_10 ?_
    refine tw_callSz (As := [.long (a2).toInt64, .long (0 : Int64), .long (9 : Int64)]) (st := []) X (tC_in (g := g) (a2).toInt64 (0 : Int64) (9 : Int64)) tG_in tI_in ⟨Nat.le_of_ble_eq_true rfl, Nat.le_of_ble_eq_true rfl⟩ ⟨Nat.zero_le _, Nat.zero_le _⟩ rfl rfl (Nat.le_of_ble_eq_true rfl) dX6_jar_13 ?_
    intro hb2
    refine tw_if_eq (tgt := 31) X dX6_jar_16 rfl hf (fun q4 hf => ?_) (fun q4 hf => ?_)
    · clear q4
      refine tw_iconst (v := -1) X dX6_jar_31 rfl ?_
      exact tw_iret X hr (prj1 hf) (prj2 hf) dX6_jar_32
    · clear q4
      refine tw_aload_n X dX6_jar_19 rfl 0 rfl ?_
      refine tw_bipush (v := 14) X dX6_jar_20 rfl ?_
      refine tw_iload_n X dX6_jar_22 rfl 1 rfl ?_
      refine tw_iadd X dX6_jar_23 ?_
      refine tw_iload_n X dX6_jar_24 rfl 2 rfl ?_
      obtain ⟨⟨y3a, y3b⟩, hy3, hf⟩ := bnd hf
      dsimp only [un2] at hf
      refine tw_callVi (As := [.int ((14 : Int32) + a1), .int a2]) (st := []) X (tC_becomes hy3) tG_becomes tI_becomes ⟨Nat.le_of_ble_eq_true rfl, Nat.le_of_ble_eq_true rfl⟩ ⟨Nat.zero_le _, Nat.zero_le _⟩ 0 rfl rfl rfl rfl (Nat.le_of_ble_eq_true rfl) dX6_jar_25 ?_
      refine tw_goto (tgt := 32) X dX6_jar_28 rfl ?_
      exact tw_iret X hr (prj1 hf) (prj2 hf) dX6_jar_32
noncomputable def tF_fee (g : St) (a1 : Int32) : Option (Int32 × St) :=
  if (tF_in (a1).toInt64 (0 : Int64) (50 : Int64)) = 0 then
    some ((-1 : Int32), g)
  else
    (tF_becomes g (2 : Int32) a1).bind (un2 fun y2a y2b =>
    some (y2a, y2b))
set_option maxHeartbeats 4000000 in
theorem tC_fee {l : Launch} {D : va_G} {A : Nat → Prop} {o : Nat} {ad : Nat → Nat} {dI : ClassId} {g : St} {a1 : Int32} {z : Int32 × St} (hf : tF_fee g a1 = some z) : Ct l yX6_fee cX6_fee 2 (some .int) 1 25 D vwCl [(dI, .int)] A (tW o ad dI) [.ref o, .int a1] g (QI D vwCl A (tW o ad dI) z.1 z.2) := by
  unfold tF_fee at hf
  refine ct_intro (own := RX6) (lv0 := [(0, .ref o), (1, .int a1)]) (by decide) rfl (Nat.le_of_ble_eq_true rfl) rfl ?_
  intro p e s m args below meth c X hr
  refine tw_iload_n X dX6_fee_0 rfl 1 rfl ?_
  refine tw_i2l X dX6_fee_1 ?_
  refine tw_lconst (v := 0) X dX6_fee_2 rfl ?_
  refine tw_ldc2 (v := 50) X q1752 dX6_fee_3 ?_
  refine tw_callSz (As := [.long (a1).toInt64, .long (0 : Int64), .long (50 : Int64)]) (st := []) X (tC_in (g := g) (a1).toInt64 (0 : Int64) (50 : Int64)) tG_in tI_in ⟨Nat.le_of_ble_eq_true rfl, Nat.le_of_ble_eq_true rfl⟩ ⟨Nat.zero_le _, Nat.zero_le _⟩ rfl rfl (Nat.le_of_ble_eq_true rfl) dX6_fee_6 ?_
  intro hb1
  refine tw_if_eq (tgt := 21) X dX6_fee_9 rfl hf (fun q3 hf => ?_) (fun q3 hf => ?_)
  · clear q3
    refine tw_iconst (v := -1) X dX6_fee_21 rfl ?_
    exact tw_iret X hr (prj1 hf) (prj2 hf) dX6_fee_22
  · clear q3
    refine tw_aload_n X dX6_fee_12 rfl 0 rfl ?_
    refine tw_iconst (v := 2) X dX6_fee_13 rfl ?_
    refine tw_iload_n X dX6_fee_14 rfl 1 rfl ?_
    obtain ⟨⟨y2a, y2b⟩, hy2, hf⟩ := bnd hf
    dsimp only [un2] at hf
    refine tw_callVi (As := [.int (2 : Int32), .int a1]) (st := []) X (tC_becomes hy2) tG_becomes tI_becomes ⟨Nat.le_of_ble_eq_true rfl, Nat.le_of_ble_eq_true rfl⟩ ⟨Nat.zero_le _, Nat.zero_le _⟩ 0 rfl rfl rfl rfl (Nat.le_of_ble_eq_true rfl) dX6_fee_15 ?_
    refine tw_goto (tgt := 22) X dX6_fee_18 rfl ?_
    exact tw_iret X hr (prj1 hf) (prj2 hf) dX6_fee_22
noncomputable def tF_whoWith (g : St) (a1 : Int32) (a2 : Int32) : Option (Int32) :=
  iter (L := Int32 × Int32) (T := Int32) (un2 fun s1a s1b => 
    (rd (g 1) 340 (0 : Int32)).bind fun x3 =>
    if x3 ≤ s1b then
      some (.inr s1a)
    else
      (tF_its g s1b a1).bind fun x5 =>
      if x5 = a2 then
        some (.inl ((s1a ||| ((1 : Int32) <<< (s1b &&& 31))), (s1b + (1 : Int32))))
      else
        some (.inl ((s1a ||| (0 : Int32)), (s1b + (1 : Int32))))) ((0 : Int32), (0 : Int32))
set_option maxHeartbeats 4000000 in
theorem tC_whoWith {l : Launch} {D : va_G} {A : Nat → Prop} {o : Nat} {ad : Nat → Nat} {dI : ClassId} {g : St} {a1 : Int32} {a2 : Int32} {z : Int32} (hf : tF_whoWith g a1 a2 = some z) : Ct l yX6_whoWith cX6_whoWith 5 (some .int) 2 43 D vwCl [(dI, .int)] A (tW o ad dI) [.ref o, .int a1, .int a2] g (QI D vwCl A (tW o ad dI) z g) := by
  unfold tF_whoWith at hf
  refine ct_intro (own := RX6) (lv0 := [(0, .ref o), (1, .int a1), (2, .int a2)]) (by decide) rfl (Nat.le_of_ble_eq_true rfl) rfl ?_
  intro p e s m args below meth c X hr
  refine tw_iconst (v := 0) X dX6_whoWith_0 rfl ?_
  refine tw_istore_n (lv' := [(3, .int (0 : Int32)), (0, .ref o), (1, .int a1), (2, .int a2)]) X dX6_whoWith_1 rfl (by decide) rfl ?_
  refine tw_iconst (v := 0) X dX6_whoWith_2 rfl ?_
  refine tw_istore (lv' := [(4, .int (0 : Int32)), (3, .int (0 : Int32)), (0, .ref o), (1, .int a1), (2, .int a2)]) X dX6_whoWith_3 (by decide) rfl ?_
  refine tw_sub [2, 3, 4, 1, 0] (lv' := [(0, .ref o), (1, .int a1), (2, .int a2), (3, .int (0 : Int32)), (4, .int (0 : Int32))]) rfl ?_
  refine it_walk (P := un2 fun s1a s1b => TW p l e (rom 2 43) s m args below meth c (MQ below (QI D vwCl A (tW o ad dI) z g) args s 0 0 A) D vwCl A (tW o ad dI) 5 0 0 g 5 [(0, .ref o), (1, .int a1), (2, .int a2), (3, .int s1a), (4, .int s1b)] []) hf ?_
  rintro ⟨s1a, s1b⟩ zz8 hf hl2
  dsimp only [un2] at hf ⊢
  refine tw_iload X dX6_whoWith_5 4 rfl ?_
  refine tw_aload_n X dX6_whoWith_7 rfl 0 rfl ?_
  refine tg_s X  dX6_whoWith_8 ?_
  refine tw_iconst (v := 0) X dX6_whoWith_11 rfl ?_
  obtain ⟨x3, hx3, hf⟩ := bnd hf
  refine ta_s X hx3 dX6_whoWith_12 ?_
  refine tw_icmp_ge (tgt := 44) X dX6_whoWith_13 rfl hf (fun q7 hf => ?_) (fun q7 hf => ?_)
  · clear q7
    refine tw_iload_n X dX6_whoWith_44 rfl 3 rfl ?_
    have hf4 := leafR hf hl2
    exact tw_iret X hr (Option.some.inj hf4) rfl dX6_whoWith_45
  · clear q7
    refine tw_iload_n X dX6_whoWith_16 rfl 3 rfl ?_
    refine tw_aload_n X dX6_whoWith_17 rfl 0 rfl ?_
    refine tw_iload X dX6_whoWith_18 4 rfl ?_
    refine tw_iload_n X dX6_whoWith_20 rfl 1 rfl ?_
    obtain ⟨x5, hx5, hf⟩ := bnd hf
    refine tw_callVi (As := [.int s1b, .int a1]) (st := [.int s1a]) X (tC_its hx5) tG_its tI_its ⟨Nat.le_of_ble_eq_true rfl, Nat.le_of_ble_eq_true rfl⟩ ⟨Nat.zero_le _, Nat.zero_le _⟩ 0 rfl rfl rfl rfl (Nat.le_of_ble_eq_true rfl) dX6_whoWith_21 ?_
    refine tw_iload_n X dX6_whoWith_24 rfl 2 rfl ?_
    refine tw_icmp_ne (tgt := 35) X dX6_whoWith_25 rfl hf (fun q6 hf => ?_) (fun q6 hf => ?_)
    · clear q6
      refine tw_iconst (v := 1) X dX6_whoWith_28 rfl ?_
      refine tw_iload X dX6_whoWith_29 4 rfl ?_
      refine tw_ishl X dX6_whoWith_31 ?_
      refine tw_goto (tgt := 36) X dX6_whoWith_32 rfl ?_
      refine tw_ior X dX6_whoWith_36 ?_
      refine tw_istore_n (lv' := [(3, .int (s1a ||| ((1 : Int32) <<< (s1b &&& 31)))), (0, .ref o), (1, .int a1), (2, .int a2), (4, .int s1b)]) X dX6_whoWith_37 rfl (by decide) rfl ?_
      refine tw_iinc (q := 4) (v := (s1b + (1 : Int32))) (lv' := [(4, .int (s1b + (1 : Int32))), (3, .int (s1a ||| ((1 : Int32) <<< (s1b &&& 31)))), (0, .ref o), (1, .int a1), (2, .int a2)]) X dX6_whoWith_38 rfl rfl (by decide) rfl ?_
      refine tw_goto (tgt := 5) X dX6_whoWith_41 rfl ?_
      refine tw_sub [2, 3, 4, 1, 0] (lv' := [(0, .ref o), (1, .int a1), (2, .int a2), (3, .int (s1a ||| ((1 : Int32) <<< (s1b &&& 31)))), (4, .int (s1b + (1 : Int32)))]) rfl ?_
      have hL := leafL hf hl2
      exact hL
    · clear q6
      refine tw_iconst (v := 0) X dX6_whoWith_35 rfl ?_
      refine tw_ior X dX6_whoWith_36 ?_
      refine tw_istore_n (lv' := [(3, .int (s1a ||| (0 : Int32))), (0, .ref o), (1, .int a1), (2, .int a2), (4, .int s1b)]) X dX6_whoWith_37 rfl (by decide) rfl ?_
      refine tw_iinc (q := 4) (v := (s1b + (1 : Int32))) (lv' := [(4, .int (s1b + (1 : Int32))), (3, .int (s1a ||| (0 : Int32))), (0, .ref o), (1, .int a1), (2, .int a2)]) X dX6_whoWith_38 rfl rfl (by decide) rfl ?_
      refine tw_goto (tgt := 5) X dX6_whoWith_41 rfl ?_
      refine tw_sub [2, 3, 4, 1, 0] (lv' := [(0, .ref o), (1, .int a1), (2, .int a2), (3, .int (s1a ||| (0 : Int32))), (4, .int (s1b + (1 : Int32)))]) rfl ?_
      have hL := leafL hf hl2
      exact hL
noncomputable def tF_coinsAll (g : St) : Option (Int32) :=
  iter (L := Int32 × Int32) (T := Int32) (un2 fun s1a s1b => 
    (rd (g 1) 340 (0 : Int32)).bind fun x3 =>
    if x3 ≤ s1b then
      some (.inr s1a)
    else
      (tF_its g s1b (3 : Int32)).bind fun x5 =>
      some (.inl ((s1a + x5), (s1b + (1 : Int32))))) ((0 : Int32), (0 : Int32))
set_option maxHeartbeats 4000000 in
theorem tC_coinsAll {l : Launch} {D : va_G} {A : Nat → Prop} {o : Nat} {ad : Nat → Nat} {dI : ClassId} {g : St} {z : Int32} (hf : tF_coinsAll g = some z) : Ct l yX6_coinsAll cX6_coinsAll 3 (some .int) 2 43 D vwCl [(dI, .int)] A (tW o ad dI) [.ref o] g (QI D vwCl A (tW o ad dI) z g) := by
  unfold tF_coinsAll at hf
  refine ct_intro (own := RX6) (lv0 := [(0, .ref o)]) (by decide) rfl (Nat.le_of_ble_eq_true rfl) rfl ?_
  intro p e s m args below meth c X hr
  refine tw_iconst (v := 0) X dX6_coinsAll_0 rfl ?_
  refine tw_istore_n (lv' := [(1, .int (0 : Int32)), (0, .ref o)]) X dX6_coinsAll_1 rfl (by decide) rfl ?_
  refine tw_iconst (v := 0) X dX6_coinsAll_2 rfl ?_
  refine tw_istore_n (lv' := [(2, .int (0 : Int32)), (1, .int (0 : Int32)), (0, .ref o)]) X dX6_coinsAll_3 rfl (by decide) rfl ?_
  refine tw_sub [2, 1, 0] (lv' := [(0, .ref o), (1, .int (0 : Int32)), (2, .int (0 : Int32))]) rfl ?_
  refine it_walk (P := un2 fun s1a s1b => TW p l e (rom 2 43) s m args below meth c (MQ below (QI D vwCl A (tW o ad dI) z g) args s 0 0 A) D vwCl A (tW o ad dI) 3 0 0 g 4 [(0, .ref o), (1, .int s1a), (2, .int s1b)] []) hf ?_
  rintro ⟨s1a, s1b⟩ zz7 hf hl2
  dsimp only [un2] at hf ⊢
  refine tw_iload_n X dX6_coinsAll_4 rfl 2 rfl ?_
  refine tw_aload_n X dX6_coinsAll_5 rfl 0 rfl ?_
  refine tg_s X  dX6_coinsAll_6 ?_
  refine tw_iconst (v := 0) X dX6_coinsAll_9 rfl ?_
  obtain ⟨x3, hx3, hf⟩ := bnd hf
  refine ta_s X hx3 dX6_coinsAll_10 ?_
  refine tw_icmp_ge (tgt := 29) X dX6_coinsAll_11 rfl hf (fun q6 hf => ?_) (fun q6 hf => ?_)
  · clear q6
    refine tw_iload_n X dX6_coinsAll_29 rfl 1 rfl ?_
    have hf4 := leafR hf hl2
    exact tw_iret X hr (Option.some.inj hf4) rfl dX6_coinsAll_30
  · clear q6
    refine tw_iload_n X dX6_coinsAll_14 rfl 1 rfl ?_
    refine tw_aload_n X dX6_coinsAll_15 rfl 0 rfl ?_
    refine tw_iload_n X dX6_coinsAll_16 rfl 2 rfl ?_
    refine tw_iconst (v := 3) X dX6_coinsAll_17 rfl ?_
    obtain ⟨x5, hx5, hf⟩ := bnd hf
    refine tw_callVi (As := [.int s1b, .int (3 : Int32)]) (st := [.int s1a]) X (tC_its hx5) tG_its tI_its ⟨Nat.le_of_ble_eq_true rfl, Nat.le_of_ble_eq_true rfl⟩ ⟨Nat.zero_le _, Nat.zero_le _⟩ 0 rfl rfl rfl rfl (Nat.le_of_ble_eq_true rfl) dX6_coinsAll_18 ?_
    refine tw_iadd X dX6_coinsAll_21 ?_
    refine tw_istore_n (lv' := [(1, .int (s1a + x5)), (0, .ref o), (2, .int s1b)]) X dX6_coinsAll_22 rfl (by decide) rfl ?_
    refine tw_iinc (q := 2) (v := (s1b + (1 : Int32))) (lv' := [(2, .int (s1b + (1 : Int32))), (1, .int (s1a + x5)), (0, .ref o)]) X dX6_coinsAll_23 rfl rfl (by decide) rfl ?_
    refine tw_goto (tgt := 4) X dX6_coinsAll_26 rfl ?_
    refine tw_sub [2, 1, 0] (lv' := [(0, .ref o), (1, .int (s1a + x5)), (2, .int (s1b + (1 : Int32)))]) rfl ?_
    have hL := leafL hf hl2
    exact hL
noncomputable def tF_isChange (g : St) (a1 : Int32) (a2 : Int32) : Option (Int32) :=
  (tF_isPerson g a1).bind fun x1 =>
  if x1 = 0 then
    some (0 : Int32)
  else
    if a2 = (9 : Int32) then
      some (1 : Int32)
    else
      if a2 ≤ a1 then
        some (0 : Int32)
      else
        (tF_isPerson g a2).bind fun x3 =>
        if x3 = 0 then
          some (0 : Int32)
        else
          some (1 : Int32)
set_option maxHeartbeats 4000000 in
theorem tC_isChange {l : Launch} {D : va_G} {A : Nat → Prop} {o : Nat} {ad : Nat → Nat} {dI : ClassId} {g : St} {a1 : Int32} {a2 : Int32} {z : Int32} (hf : tF_isChange g a1 a2 = some z) : Ct l yX6_isChange cX6_isChange 3 (some .boolean) 2 46 D vwCl [(dI, .int)] A (tW o ad dI) [.ref o, .int a1, .int a2] g (QZ D vwCl A (tW o ad dI) z g) := by
  unfold tF_isChange at hf
  refine ct_intro (own := RX6) (lv0 := [(0, .ref o), (1, .int a1), (2, .int a2)]) (by decide) rfl (Nat.le_of_ble_eq_true rfl) rfl ?_
  intro p e s m args below meth c X hr
  refine tw_aload_n X dX6_isChange_0 rfl 0 rfl ?_
  refine tw_iload_n X dX6_isChange_1 rfl 1 rfl ?_
  obtain ⟨x1, hx1, hf⟩ := bnd hf
  refine tw_callVz (As := [.int a1]) (st := []) X (tC_isPerson hx1) tG_isPerson tI_isPerson ⟨Nat.le_of_ble_eq_true rfl, Nat.le_of_ble_eq_true rfl⟩ ⟨Nat.zero_le _, Nat.zero_le _⟩ 0 rfl rfl rfl rfl (Nat.le_of_ble_eq_true rfl) dX6_isChange_2 ?_
  intro hb2
  refine tw_if_eq (tgt := 31) X dX6_isChange_5 rfl hf (fun q8 hf => ?_) (fun q8 hf => ?_)
  · clear q8
    refine tw_iconst (v := 0) X dX6_isChange_31 rfl ?_
    exact tw_zret X hr (Or.inl rfl) (Option.some.inj hf) rfl dX6_isChange_32
  · clear q8
    refine tw_iload_n X dX6_isChange_8 rfl 2 rfl ?_
    refine tw_bipush (v := 9) X dX6_isChange_9 rfl ?_
    refine tw_icmp_eq (tgt := 27) X dX6_isChange_11 rfl hf (fun q7 hf => ?_) (fun q7 hf => ?_)
    · clear q7
      refine tw_iconst (v := 1) X dX6_isChange_27 rfl ?_
      refine tw_goto (tgt := 32) X dX6_isChange_28 rfl ?_
      exact tw_zret X hr (Or.inr rfl) (Option.some.inj hf) rfl dX6_isChange_32
    · clear q7
      refine tw_iload_n X dX6_isChange_14 rfl 2 rfl ?_
      refine tw_iload_n X dX6_isChange_15 rfl 1 rfl ?_
      refine tw_icmp_le (tgt := 31) X dX6_isChange_16 rfl hf (fun q6 hf => ?_) (fun q6 hf => ?_)
      · clear q6
        refine tw_iconst (v := 0) X dX6_isChange_31 rfl ?_
        exact tw_zret X hr (Or.inl rfl) (Option.some.inj hf) rfl dX6_isChange_32
      · clear q6
        refine tw_aload_n X dX6_isChange_19 rfl 0 rfl ?_
        refine tw_iload_n X dX6_isChange_20 rfl 2 rfl ?_
        obtain ⟨x3, hx3, hf⟩ := bnd hf
        refine tw_callVz (As := [.int a2]) (st := []) X (tC_isPerson hx3) tG_isPerson tI_isPerson ⟨Nat.le_of_ble_eq_true rfl, Nat.le_of_ble_eq_true rfl⟩ ⟨Nat.zero_le _, Nat.zero_le _⟩ 0 rfl rfl rfl rfl (Nat.le_of_ble_eq_true rfl) dX6_isChange_21 ?_
        intro hb4
        refine tw_if_eq (tgt := 31) X dX6_isChange_24 rfl hf (fun q5 hf => ?_) (fun q5 hf => ?_)
        · clear q5
          refine tw_iconst (v := 0) X dX6_isChange_31 rfl ?_
          exact tw_zret X hr (Or.inl rfl) (Option.some.inj hf) rfl dX6_isChange_32
        · clear q5
          refine tw_iconst (v := 1) X dX6_isChange_27 rfl ?_
          refine tw_goto (tgt := 32) X dX6_isChange_28 rfl ?_
          exact tw_zret X hr (Or.inr rfl) (Option.some.inj hf) rfl dX6_isChange_32
noncomputable def tF_isThere (g : St) (a1 : Int32) : Option (Int32) :=
  if a1 = (g 0 4) then
    some (0 : Int32)
  else
    (tF_isWhole g a1).bind fun x1 =>
    if x1 = 0 then
      some (1 : Int32)
    else
      some (0 : Int32)
set_option maxHeartbeats 4000000 in
theorem tC_isThere {l : Launch} {D : va_G} {A : Nat → Prop} {o : Nat} {ad : Nat → Nat} {dI : ClassId} {g : St} {a1 : Int32} {z : Int32} (hf : tF_isThere g a1 = some z) : Ct l yX6_isThere cX6_isThere 2 (some .boolean) 3 64 D vwCl [(dI, .int)] A (tW o ad dI) [.ref o, .int a1] g (QZ D vwCl A (tW o ad dI) z g) := by
  unfold tF_isThere at hf
  refine ct_intro (own := RX6) (lv0 := [(0, .ref o), (1, .int a1)]) (by decide) rfl (Nat.le_of_ble_eq_true rfl) rfl ?_
  intro p e s m args below meth c X hr
  refine tw_iload_n X dX6_isThere_0 rfl 1 rfl ?_
  refine tw_aload_n X dX6_isThere_1 rfl 0 rfl ?_
  refine tg_absent X  dX6_isThere_2 ?_
  refine tw_icmp_eq (tgt := 20) X dX6_isThere_5 rfl hf (fun q4 hf => ?_) (fun q4 hf => ?_)
  · clear q4
    refine tw_iconst (v := 0) X dX6_isThere_20 rfl ?_
    exact tw_zret X hr (Or.inl rfl) (Option.some.inj hf) rfl dX6_isThere_21
  · clear q4
    refine tw_aload_n X dX6_isThere_8 rfl 0 rfl ?_
    refine tw_iload_n X dX6_isThere_9 rfl 1 rfl ?_
    obtain ⟨x1, hx1, hf⟩ := bnd hf
    refine tw_callVz (As := [.int a1]) (st := []) X (tC_isWhole hx1) tG_isWhole tI_isWhole ⟨Nat.le_of_ble_eq_true rfl, Nat.le_of_ble_eq_true rfl⟩ ⟨Nat.zero_le _, Nat.zero_le _⟩ 0 rfl rfl rfl rfl (Nat.le_of_ble_eq_true rfl) dX6_isThere_10 ?_
    intro hb2
    refine tw_if_ne (tgt := 20) X dX6_isThere_13 rfl hf (fun q3 hf => ?_) (fun q3 hf => ?_)
    · clear q3
      refine tw_iconst (v := 1) X dX6_isThere_16 rfl ?_
      refine tw_goto (tgt := 21) X dX6_isThere_17 rfl ?_
      exact tw_zret X hr (Or.inr rfl) (Option.some.inj hf) rfl dX6_isThere_21
    · clear q3
      refine tw_iconst (v := 0) X dX6_isThere_20 rfl ?_
      exact tw_zret X hr (Or.inl rfl) (Option.some.inj hf) rfl dX6_isThere_21
noncomputable def tF_swaps (g : St) (a1 : Int32) (a2 : Int32) : Option (St) :=
  (tF_its g a1 (1 : Int32)).bind fun x1 =>
  (tF_its g a2 (1 : Int32)).bind fun x2 =>
  (wr g 1 340 (tF_at a1 (1 : Int32)) x2).bind fun g3 =>
  (wr g3 1 340 (tF_at a2 (1 : Int32)) x1).bind fun g4 =>
  some g4
set_option maxHeartbeats 4000000 in
theorem tC_swaps {l : Launch} {D : va_G} {A : Nat → Prop} {o : Nat} {ad : Nat → Nat} {dI : ClassId} {g : St} {a1 : Int32} {a2 : Int32} {z : St} (hf : tF_swaps g a1 a2 = some z) : Ct l yX6_swaps cX6_swaps 4 none 2 43 D vwCl [(dI, .int)] A (tW o ad dI) [.ref o, .int a1, .int a2] g (QV D vwCl A (tW o ad dI) z) := by
  unfold tF_swaps at hf
  refine ct_intro (own := RX6) (lv0 := [(0, .ref o), (1, .int a1), (2, .int a2)]) (by decide) rfl (Nat.le_of_ble_eq_true rfl) rfl ?_
  intro p e s m args below meth c X hr
  refine tw_aload_n X dX6_swaps_0 rfl 0 rfl ?_
  refine tw_iload_n X dX6_swaps_1 rfl 1 rfl ?_
  refine tw_iconst (v := 1) X dX6_swaps_2 rfl ?_
  obtain ⟨x1, hx1, hf⟩ := bnd hf
  refine tw_callVi (As := [.int a1, .int (1 : Int32)]) (st := []) X (tC_its hx1) tG_its tI_its ⟨Nat.le_of_ble_eq_true rfl, Nat.le_of_ble_eq_true rfl⟩ ⟨Nat.zero_le _, Nat.zero_le _⟩ 0 rfl rfl rfl rfl (Nat.le_of_ble_eq_true rfl) dX6_swaps_3 ?_
  refine tw_istore_n (lv' := [(3, .int x1), (0, .ref o), (1, .int a1), (2, .int a2)]) X dX6_swaps_6 rfl (by decide) rfl ?_
  refine tw_aload_n X dX6_swaps_7 rfl 1 rfl ?_
  refine tg_s X  dX6_swaps_8 ?_
  refine tw_iload_n X dX6_swaps_11 rfl 2 rfl ?_
  refine tw_iconst (v := 1) X dX6_swaps_12 rfl ?_
  refine tw_callSi (As := [.int a1, .int (1 : Int32)]) (st := [.ref (ad 0)]) X (tC_at (g := g) a1 (1 : Int32)) tG_at tI_at ⟨Nat.le_of_ble_eq_true rfl, Nat.le_of_ble_eq_true rfl⟩ ⟨Nat.zero_le _, Nat.zero_le _⟩ rfl rfl (Nat.le_of_ble_eq_true rfl) dX6_swaps_13 ?_
  refine tw_aload_n X dX6_swaps_16 rfl 1 rfl ?_
  refine tw_iload_n X dX6_swaps_17 rfl 3 rfl ?_
  refine tw_iconst (v := 1) X dX6_swaps_18 rfl ?_
  obtain ⟨x2, hx2, hf⟩ := bnd hf
  refine tw_callVi (As := [.int a2, .int (1 : Int32)]) (st := [.int (tF_at a1 (1 : Int32)), .ref (ad 0)]) X (tC_its hx2) tG_its tI_its ⟨Nat.le_of_ble_eq_true rfl, Nat.le_of_ble_eq_true rfl⟩ ⟨Nat.zero_le _, Nat.zero_le _⟩ 0 rfl rfl rfl rfl (Nat.le_of_ble_eq_true rfl) dX6_swaps_19 ?_
  obtain ⟨g3, hg3, hf⟩ := bnd hf
  refine ts_s X hg3 dX6_swaps_22 ?_
  refine tw_aload_n X dX6_swaps_23 rfl 1 rfl ?_
  refine tg_s X  dX6_swaps_24 ?_
  refine tw_iload_n X dX6_swaps_27 rfl 3 rfl ?_
  refine tw_iconst (v := 1) X dX6_swaps_28 rfl ?_
  refine tw_callSi (As := [.int a2, .int (1 : Int32)]) (st := [.ref (ad 0)]) X (tC_at (g := g3) a2 (1 : Int32)) tG_at tI_at ⟨Nat.le_of_ble_eq_true rfl, Nat.le_of_ble_eq_true rfl⟩ ⟨Nat.zero_le _, Nat.zero_le _⟩ rfl rfl (Nat.le_of_ble_eq_true rfl) dX6_swaps_29 ?_
  refine tw_iload_n X dX6_swaps_32 rfl 0 rfl ?_
  obtain ⟨g4, hg4, hf⟩ := bnd hf
  refine ts_s X hg4 dX6_swaps_33 ?_
  exact tw_vret X hr (Option.some.inj hf) dX6_swaps_34
noncomputable def tF_undoes (g : St) (a1 : Int32) (a2 : Int32) (a3 : Int32) : Option (St) :=
  (dv a1 (10 : Int32)).bind fun x1 =>
  (rm a1 (10 : Int32)).bind fun x2 =>
  if x2 = (9 : Int32) then
    (tF_its g x1 (1 : Int32)).bind fun x3 =>
    (rd (g 1) 340 ((14 : Int32) + x3)).bind fun x4 =>
    (wr g 1 340 ((14 : Int32) + x3) (x4 + (1 : Int32))).bind fun g5 =>
    (rd (g5 1) 340 ((14 : Int32) + a2)).bind fun x6 =>
    (wr g5 1 340 ((14 : Int32) + a2) (x6 - (1 : Int32))).bind fun g7 =>
    (wr g7 1 340 (tF_at x1 (1 : Int32)) a2).bind fun g8 =>
    (rd (g8 1) 340 (tF_at x1 (3 : Int32))).bind fun x9 =>
    (wr g8 1 340 (tF_at x1 (3 : Int32)) (x9 + a3)).bind fun g10 =>
    some g10
  else
    (tF_swaps g x1 x2).bind fun g11 =>
    some g11
set_option maxHeartbeats 4000000 in
theorem tC_undoes {l : Launch} {D : va_G} {A : Nat → Prop} {o : Nat} {ad : Nat → Nat} {dI : ClassId} {g : St} {a1 : Int32} {a2 : Int32} {a3 : Int32} {z : St} (hf : tF_undoes g a1 a2 a3 = some z) : Ct l yX6_undoes cX6_undoes 6 none 3 66 D vwCl [(dI, .int)] A (tW o ad dI) [.ref o, .int a1, .int a2, .int a3] g (QV D vwCl A (tW o ad dI) z) := by
  unfold tF_undoes at hf
  refine ct_intro (own := RX6) (lv0 := [(0, .ref o), (1, .int a1), (2, .int a2), (3, .int a3)]) (by decide) rfl (Nat.le_of_ble_eq_true rfl) rfl ?_
  intro p e s m args below meth c X hr
  refine tw_iload_n X dX6_undoes_0 rfl 1 rfl ?_
  refine tw_bipush (v := 10) X dX6_undoes_1 rfl ?_
  obtain ⟨x1, hx1, hf⟩ := bnd hf
  refine tw_idivV X dX6_undoes_3 hx1 ?_
  refine tw_istore (lv' := [(4, .int x1), (0, .ref o), (1, .int a1), (2, .int a2), (3, .int a3)]) X dX6_undoes_4 (by decide) rfl ?_
  refine tw_iload_n X dX6_undoes_6 rfl 2 rfl ?_
  refine tw_bipush (v := 10) X dX6_undoes_7 rfl ?_
  obtain ⟨x2, hx2, hf⟩ := bnd hf
  refine tw_iremV X dX6_undoes_9 hx2 ?_
  refine tw_istore (lv' := [(5, .int x2), (4, .int x1), (0, .ref o), (1, .int a1), (2, .int a2), (3, .int a3)]) X dX6_undoes_10 (by decide) rfl ?_
  refine tw_iload X dX6_undoes_12 0 rfl ?_
  refine tw_bipush (v := 9) X dX6_undoes_14 rfl ?_
  refine tw_icmp_ne (tgt := 81) X dX6_undoes_16 rfl hf (fun q12 hf => ?_) (fun q12 hf => ?_)
  · clear q12
    refine tw_aload_n X dX6_undoes_19 rfl 2 rfl ?_
    refine tg_s X  dX6_undoes_20 ?_
    refine tw_bipush (v := 14) X dX6_undoes_23 rfl ?_
    refine tw_aload_n X dX6_undoes_25 rfl 2 rfl ?_
    refine tw_iload X dX6_undoes_26 1 rfl ?_
    refine tw_iconst (v := 1) X dX6_undoes_28 rfl ?_
    obtain ⟨x3, hx3, hf⟩ := bnd hf
    refine tw_callVi (As := [.int x1, .int (1 : Int32)]) (st := [.int (14 : Int32), .ref (ad 0)]) X (tC_its hx3) tG_its tI_its ⟨Nat.le_of_ble_eq_true rfl, Nat.le_of_ble_eq_true rfl⟩ ⟨Nat.zero_le _, Nat.zero_le _⟩ 0 rfl rfl rfl rfl (Nat.le_of_ble_eq_true rfl) dX6_undoes_29 ?_
    refine tw_iadd X dX6_undoes_32 ?_
    refine tw_dup2_11 X dX6_undoes_33 rfl rfl ?_
    obtain ⟨x4, hx4, hf⟩ := bnd hf
    refine ta_s X hx4 dX6_undoes_34 ?_
    refine tw_iconst (v := 1) X dX6_undoes_35 rfl ?_
    refine tw_iadd X dX6_undoes_36 ?_
    obtain ⟨g5, hg5, hf⟩ := bnd hf
    refine ts_s X hg5 dX6_undoes_37 ?_
    refine tw_aload_n X dX6_undoes_38 rfl 2 rfl ?_
    refine tg_s X  dX6_undoes_39 ?_
    refine tw_bipush (v := 14) X dX6_undoes_42 rfl ?_
    refine tw_iload_n X dX6_undoes_44 rfl 4 rfl ?_
    refine tw_iadd X dX6_undoes_45 ?_
    refine tw_dup2_11 X dX6_undoes_46 rfl rfl ?_
    obtain ⟨x6, hx6, hf⟩ := bnd hf
    refine ta_s X hx6 dX6_undoes_47 ?_
    refine tw_iconst (v := 1) X dX6_undoes_48 rfl ?_
    refine tw_isub X dX6_undoes_49 ?_
    obtain ⟨g7, hg7, hf⟩ := bnd hf
    refine ts_s X hg7 dX6_undoes_50 ?_
    refine tw_aload_n X dX6_undoes_51 rfl 2 rfl ?_
    refine tg_s X  dX6_undoes_52 ?_
    refine tw_iload X dX6_undoes_55 1 rfl ?_
    refine tw_iconst (v := 1) X dX6_undoes_57 rfl ?_
    refine tw_callSi (As := [.int x1, .int (1 : Int32)]) (st := [.ref (ad 0)]) X (tC_at (g := g7) x1 (1 : Int32)) tG_at tI_at ⟨Nat.le_of_ble_eq_true rfl, Nat.le_of_ble_eq_true rfl⟩ ⟨Nat.zero_le _, Nat.zero_le _⟩ rfl rfl (Nat.le_of_ble_eq_true rfl) dX6_undoes_58 ?_
    refine tw_iload_n X dX6_undoes_61 rfl 4 rfl ?_
    obtain ⟨g8, hg8, hf⟩ := bnd hf
    refine ts_s X hg8 dX6_undoes_62 ?_
    refine tw_aload_n X dX6_undoes_63 rfl 2 rfl ?_
    refine tg_s X  dX6_undoes_64 ?_
    refine tw_iload X dX6_undoes_67 1 rfl ?_
    refine tw_iconst (v := 3) X dX6_undoes_69 rfl ?_
    refine tw_callSi (As := [.int x1, .int (3 : Int32)]) (st := [.ref (ad 0)]) X (tC_at (g := g8) x1 (3 : Int32)) tG_at tI_at ⟨Nat.le_of_ble_eq_true rfl, Nat.le_of_ble_eq_true rfl⟩ ⟨Nat.zero_le _, Nat.zero_le _⟩ rfl rfl (Nat.le_of_ble_eq_true rfl) dX6_undoes_70 ?_
    refine tw_dup2_11 X dX6_undoes_73 rfl rfl ?_
    obtain ⟨x9, hx9, hf⟩ := bnd hf
    refine ta_s X hx9 dX6_undoes_74 ?_
    refine tw_iload_n X dX6_undoes_75 rfl 5 rfl ?_
    refine tw_iadd X dX6_undoes_76 ?_
    obtain ⟨g10, hg10, hf⟩ := bnd hf
    refine ts_s X hg10 dX6_undoes_77 ?_
    refine tw_goto (tgt := 89) X dX6_undoes_78 rfl ?_
    exact tw_vret X hr (Option.some.inj hf) dX6_undoes_89
  · clear q12
    refine tw_aload_n X dX6_undoes_81 rfl 2 rfl ?_
    refine tw_iload X dX6_undoes_82 1 rfl ?_
    refine tw_iload X dX6_undoes_84 0 rfl ?_
    obtain ⟨g11, hg11, hf⟩ := bnd hf
    refine tw_callVv (As := [.int x1, .int x2]) (st := []) X (tC_swaps hg11) tG_swaps tI_swaps ⟨Nat.le_of_ble_eq_true rfl, Nat.le_of_ble_eq_true rfl⟩ ⟨Nat.zero_le _, Nat.zero_le _⟩ 0 rfl rfl rfl rfl (Nat.le_of_ble_eq_true rfl) dX6_undoes_86 ?_
    exact tw_vret X hr (Option.some.inj hf) dX6_undoes_89
noncomputable def tF_thereSet (g : St) : Option (Int32) :=
  (rd (g 1) 340 (0 : Int32)).bind fun x1 =>
  if 0 ≤ (g 0 4) then
    some ((((1 : Int32) <<< (x1 &&& 31)) - (1 : Int32)) &&& (((1 : Int32) <<< ((g 0 4) &&& 31)) ^^^ (-1 : Int32)))
  else
    some (((1 : Int32) <<< (x1 &&& 31)) - (1 : Int32))
set_option maxHeartbeats 4000000 in
theorem tC_thereSet {l : Launch} {D : va_G} {A : Nat → Prop} {o : Nat} {ad : Nat → Nat} {dI : ClassId} {g : St} {z : Int32} (hf : tF_thereSet g = some z) : Ct l yX6_thereSet cX6_thereSet 2 (some .int) 0 0 D vwCl [(dI, .int)] A (tW o ad dI) [.ref o] g (QI D vwCl A (tW o ad dI) z g) := by
  unfold tF_thereSet at hf
  refine ct_intro (own := RX6) (lv0 := [(0, .ref o)]) (by decide) rfl (Nat.le_of_ble_eq_true rfl) rfl ?_
  intro p e s m args below meth c X hr
  refine tw_iconst (v := 1) X dX6_thereSet_0 rfl ?_
  refine tw_aload_n X dX6_thereSet_1 rfl 0 rfl ?_
  refine tg_s X  dX6_thereSet_2 ?_
  refine tw_iconst (v := 0) X dX6_thereSet_5 rfl ?_
  obtain ⟨x1, hx1, hf⟩ := bnd hf
  refine ta_s X hx1 dX6_thereSet_6 ?_
  refine tw_ishl X dX6_thereSet_7 ?_
  refine tw_iconst (v := 1) X dX6_thereSet_8 rfl ?_
  refine tw_isub X dX6_thereSet_9 ?_
  refine tw_istore_n (lv' := [(1, .int (((1 : Int32) <<< (x1 &&& 31)) - (1 : Int32))), (0, .ref o)]) X dX6_thereSet_10 rfl (by decide) rfl ?_
  refine tw_aload_n X dX6_thereSet_11 rfl 1 rfl ?_
  refine tg_absent X  dX6_thereSet_12 ?_
  refine tw_if_ge (tgt := 22) X dX6_thereSet_15 rfl hf (fun q2 hf => ?_) (fun q2 hf => ?_)
  · clear q2
    refine tw_iload_n X dX6_thereSet_22 rfl 0 rfl ?_
    refine tw_iconst (v := 1) X dX6_thereSet_23 rfl ?_
    refine tw_aload_n X dX6_thereSet_24 rfl 1 rfl ?_
    refine tg_absent X  dX6_thereSet_25 ?_
    refine tw_ishl X dX6_thereSet_28 ?_
    refine tw_iconst (v := -1) X dX6_thereSet_29 rfl ?_
    refine tw_ixor X dX6_thereSet_30 ?_
    refine tw_iand X dX6_thereSet_31 ?_
    exact tw_iret X hr (Option.some.inj hf) rfl dX6_thereSet_32
  · clear q2
    refine tw_iload_n X dX6_thereSet_18 rfl 0 rfl ?_
    refine tw_goto (tgt := 32) X dX6_thereSet_19 rfl ?_
    exact tw_iret X hr (Option.some.inj hf) rfl dX6_thereSet_32
noncomputable def tF_keeps (g : St) (a1 : Int32) (a2 : Int32) : Option (St) :=
  (pf g 0 11 ((g 0 11) + (1 : Int32))).bind fun g1 =>
  Option.bind (α := St) (β := St)
    (if (g1 0 13) < 0 then
      (pf g1 0 13 a1).bind fun g19 =>
      iter (L := St × Int32) (T := St) (un2 fun s20a s20b => 
        if a1 ≤ s20b then
          some (.inr s20a)
        else
          (rd (s20a 9) 6 s20b).bind fun x23 =>
          (wr s20a 10 6 s20b x23).bind fun g24 =>
          some (.inl (g24, (s20b + (1 : Int32))))) (g19, (0 : Int32))
    else
      if (g1 0 13) ≤ a1 then
        some g1
      else
        (pf g1 0 13 a1).bind fun g27 =>
        iter (L := St × Int32) (T := St) (un2 fun s28a s28b => 
          if a1 ≤ s28b then
            some (.inr s28a)
          else
            (rd (s28a 9) 6 s28b).bind fun x31 =>
            (wr s28a 10 6 s28b x31).bind fun g32 =>
            some (.inl (g32, (s28b + (1 : Int32))))) (g27, (0 : Int32)))
    (fun j2 => jn (S := Unit) (T := St)
      (if (j2 0 14) < 0 then
        some (.inl ())
      else
        if (j2 0 14) ≤ a2 then
          some (.inr j2)
        else
          some (.inl ()))
      (fun j4 => (pf j2 0 14 a2).bind fun g6 =>
      (pf g6 0 15 a1).bind fun g7 =>
      iter (L := St × Int32) (T := St) (un2 fun s8a s8b => 
        if a1 ≤ s8b then
          some (.inr s8a)
        else
          (rd (s8a 9) 6 s8b).bind fun x11 =>
          (wr s8a 11 6 s8b x11).bind fun g12 =>
          some (.inl (g12, (s8b + (1 : Int32))))) (g7, (0 : Int32))))
set_option maxHeartbeats 4000000 in
theorem tC_keeps {l : Launch} {D : va_G} {A : Nat → Prop} {o : Nat} {ad : Nat → Nat} {dI : ClassId} {g : St} {a1 : Int32} {a2 : Int32} {z : St} (hf : tF_keeps g a1 a2 = some z) : Ct l yX6_keeps cX6_keeps 4 none 0 0 D vwCl [(dI, .int)] A (tW o ad dI) [.ref o, .int a1, .int a2] g (QV D vwCl A (tW o ad dI) z) := by
  unfold tF_keeps at hf
  refine ct_intro (own := RX6) (lv0 := [(0, .ref o), (1, .int a1), (2, .int a2)]) (by decide) rfl (Nat.le_of_ble_eq_true rfl) rfl ?_
  intro p e s m args below meth c X hr
  refine tw_aload_n X dX6_keeps_0 rfl 0 rfl ?_
  refine tw_dup X dX6_keeps_1 rfl ?_
  refine tg_doneMany X  dX6_keeps_2 ?_
  refine tw_iconst (v := 1) X dX6_keeps_5 rfl ?_
  refine tw_iadd X dX6_keeps_6 ?_
  obtain ⟨g1, hg1, hf⟩ := bnd hf
  refine tp_doneMany X hg1 dX6_keeps_7 ?_
  refine tw_aload_n X dX6_keeps_10 rfl 0 rfl ?_
  refine tg_shortestLong X  dX6_keeps_11 ?_
  refine bj_walk (P := fun j2 : St => TW p l e (rom 0 0) s m args below meth c (MQ below (QV D vwCl A (tW o ad dI) z) args s 0 0 A) D vwCl A (tW o ad dI) 4 0 0 j2 55 [(0, .ref o), (1, .int a1), (2, .int a2)] []) hf ?_ ?_
  · intro j2 hf
    refine tw_aload_n X dX6_keeps_55 rfl 0 rfl ?_
    refine tg_cheapCost X  dX6_keeps_56 ?_
    refine jn_walk (P := fun j4 : Unit => TW p l e (rom 0 0) s m args below meth c (MQ below (QV D vwCl A (tW o ad dI) z) args s 0 0 A) D vwCl A (tW o ad dI) 4 0 0 j2 70 [(0, .ref o), (1, .int a1), (2, .int a2)] []) hf ?_ ?_
    · intro j4 hf
      refine tw_aload_n X dX6_keeps_70 rfl 0 rfl ?_
      refine tw_iload_n X dX6_keeps_71 rfl 2 rfl ?_
      obtain ⟨g6, hg6, hf⟩ := bnd hf
      refine tp_cheapCost X hg6 dX6_keeps_72 ?_
      refine tw_aload_n X dX6_keeps_75 rfl 0 rfl ?_
      refine tw_iload_n X dX6_keeps_76 rfl 1 rfl ?_
      obtain ⟨g7, hg7, hf⟩ := bnd hf
      refine tp_cheapLong X hg7 dX6_keeps_77 ?_
      refine tw_iconst (v := 0) X dX6_keeps_80 rfl ?_
      refine tw_istore_n (lv' := [(3, .int (0 : Int32)), (0, .ref o), (1, .int a1), (2, .int a2)]) X dX6_keeps_81 rfl (by decide) rfl ?_
      refine tw_sub [1, 2, 0] (lv' := [(0, .ref o), (1, .int a1), (3, .int (0 : Int32))]) rfl ?_
      refine it_walk (P := un2 fun s8a s8b => TW p l e (rom 0 0) s m args below meth c (MQ below (QV D vwCl A (tW o ad dI) z) args s 0 0 A) D vwCl A (tW o ad dI) 4 0 0 s8a 82 [(0, .ref o), (1, .int a1), (3, .int s8b)] []) hf ?_
      rintro ⟨s8a, s8b⟩ zz14 hf hl9
      dsimp only [un2] at hf ⊢
      refine tw_iload_n X dX6_keeps_82 rfl 2 rfl ?_
      refine tw_iload_n X dX6_keeps_83 rfl 1 rfl ?_
      refine tw_icmp_ge (tgt := 105) X dX6_keeps_84 rfl hf (fun q13 hf => ?_) (fun q13 hf => ?_)
      · clear q13
        have hf10 := leafR hf hl9
        exact tw_vret X hr (Option.some.inj hf10) dX6_keeps_105
      · clear q13
        refine tw_aload_n X dX6_keeps_87 rfl 0 rfl ?_
        refine tg_cheap X  dX6_keeps_88 ?_
        refine tw_iload_n X dX6_keeps_91 rfl 2 rfl ?_
        refine tw_aload_n X dX6_keeps_92 rfl 0 rfl ?_
        refine tg_row X  dX6_keeps_93 ?_
        refine tw_iload_n X dX6_keeps_96 rfl 2 rfl ?_
        obtain ⟨x11, hx11, hf⟩ := bnd hf
        refine ta_row X hx11 dX6_keeps_97 ?_
        obtain ⟨g12, hg12, hf⟩ := bnd hf
        refine ts_cheap X hg12 dX6_keeps_98 ?_
        refine tw_iinc (q := 2) (v := (s8b + (1 : Int32))) (lv' := [(3, .int (s8b + (1 : Int32))), (0, .ref o), (1, .int a1)]) X dX6_keeps_99 rfl rfl (by decide) rfl ?_
        refine tw_goto (tgt := 82) X dX6_keeps_102 rfl ?_
        refine tw_sub [1, 2, 0] (lv' := [(0, .ref o), (1, .int a1), (3, .int (s8b + (1 : Int32)))]) rfl ?_
        have hL := leafL hf hl9
        exact hL
    · intro zz18 hf hk5
      refine tw_if_lt (tgt := 70) X dX6_keeps_59 rfl hf (fun q17 hf => ?_) (fun q17 hf => ?_)
      · clear q17
        have hL := leafL hf hk5
        exact hL
      · clear q17
        refine tw_iload_n X dX6_keeps_62 rfl 2 rfl ?_
        refine tw_aload_n X dX6_keeps_63 rfl 0 rfl ?_
        refine tg_cheapCost X  dX6_keeps_64 ?_
        refine tw_icmp_ge (tgt := 105) X dX6_keeps_67 rfl hf (fun q16 hf => ?_) (fun q16 hf => ?_)
        · clear q16
          have hf15 := leafR hf hk5
          exact tw_vret X hr (Option.some.inj hf15) dX6_keeps_105
        · clear q16
          have hL := leafL hf hk5
          exact hL
  · intro zz37 hf hk3
    refine tw_if_lt (tgt := 25) X dX6_keeps_14 rfl hf (fun q36 hf => ?_) (fun q36 hf => ?_)
    · clear q36
      refine tw_aload_n X dX6_keeps_25 rfl 0 rfl ?_
      refine tw_iload_n X dX6_keeps_26 rfl 1 rfl ?_
      obtain ⟨g19, hg19, hf⟩ := bnd hf
      refine tp_shortestLong X hg19 dX6_keeps_27 ?_
      refine tw_iconst (v := 0) X dX6_keeps_30 rfl ?_
      refine tw_istore_n (lv' := [(3, .int (0 : Int32)), (0, .ref o), (1, .int a1), (2, .int a2)]) X dX6_keeps_31 rfl (by decide) rfl ?_
      refine tw_sub [1, 2, 3, 0] (lv' := [(0, .ref o), (1, .int a1), (2, .int a2), (3, .int (0 : Int32))]) rfl ?_
      refine it_walk (P := un2 fun s20a s20b => TW p l e (rom 0 0) s m args below meth c (MQ below (QV D vwCl A (tW o ad dI) z) args s 0 0 A) D vwCl A (tW o ad dI) 4 0 0 s20a 32 [(0, .ref o), (1, .int a1), (2, .int a2), (3, .int s20b)] []) hf ?_
      rintro ⟨s20a, s20b⟩ zz26 hf hl21
      dsimp only [un2] at hf ⊢
      refine tw_iload_n X dX6_keeps_32 rfl 3 rfl ?_
      refine tw_iload_n X dX6_keeps_33 rfl 1 rfl ?_
      refine tw_icmp_ge (tgt := 55) X dX6_keeps_34 rfl hf (fun q25 hf => ?_) (fun q25 hf => ?_)
      · clear q25
        have hf22 := leafR hf hl21
        refine tw_sub [0, 1, 2] (lv' := [(0, .ref o), (1, .int a1), (2, .int a2)]) rfl ?_
        have hL := hk3 _ hf22
        exact hL
      · clear q25
        refine tw_aload_n X dX6_keeps_37 rfl 0 rfl ?_
        refine tg_shortest X  dX6_keeps_38 ?_
        refine tw_iload_n X dX6_keeps_41 rfl 3 rfl ?_
        refine tw_aload_n X dX6_keeps_42 rfl 0 rfl ?_
        refine tg_row X  dX6_keeps_43 ?_
        refine tw_iload_n X dX6_keeps_46 rfl 3 rfl ?_
        obtain ⟨x23, hx23, hf⟩ := bnd hf
        refine ta_row X hx23 dX6_keeps_47 ?_
        obtain ⟨g24, hg24, hf⟩ := bnd hf
        refine ts_shortest X hg24 dX6_keeps_48 ?_
        refine tw_iinc (q := 3) (v := (s20b + (1 : Int32))) (lv' := [(3, .int (s20b + (1 : Int32))), (0, .ref o), (1, .int a1), (2, .int a2)]) X dX6_keeps_49 rfl rfl (by decide) rfl ?_
        refine tw_goto (tgt := 32) X dX6_keeps_52 rfl ?_
        refine tw_sub [1, 2, 3, 0] (lv' := [(0, .ref o), (1, .int a1), (2, .int a2), (3, .int (s20b + (1 : Int32)))]) rfl ?_
        have hL := leafL hf hl21
        exact hL
    · clear q36
      refine tw_iload_n X dX6_keeps_17 rfl 1 rfl ?_
      refine tw_aload_n X dX6_keeps_18 rfl 0 rfl ?_
      refine tg_shortestLong X  dX6_keeps_19 ?_
      refine tw_icmp_ge (tgt := 55) X dX6_keeps_22 rfl hf (fun q35 hf => ?_) (fun q35 hf => ?_)
      · clear q35
        have hL := hk3 _ hf
        exact hL
      · clear q35
        refine tw_aload_n X dX6_keeps_25 rfl 0 rfl ?_
        refine tw_iload_n X dX6_keeps_26 rfl 1 rfl ?_
        obtain ⟨g27, hg27, hf⟩ := bnd hf
        refine tp_shortestLong X hg27 dX6_keeps_27 ?_
        refine tw_iconst (v := 0) X dX6_keeps_30 rfl ?_
        refine tw_istore_n (lv' := [(3, .int (0 : Int32)), (0, .ref o), (1, .int a1), (2, .int a2)]) X dX6_keeps_31 rfl (by decide) rfl ?_
        refine tw_sub [1, 2, 3, 0] (lv' := [(0, .ref o), (1, .int a1), (2, .int a2), (3, .int (0 : Int32))]) rfl ?_
        refine it_walk (P := un2 fun s28a s28b => TW p l e (rom 0 0) s m args below meth c (MQ below (QV D vwCl A (tW o ad dI) z) args s 0 0 A) D vwCl A (tW o ad dI) 4 0 0 s28a 32 [(0, .ref o), (1, .int a1), (2, .int a2), (3, .int s28b)] []) hf ?_
        rintro ⟨s28a, s28b⟩ zz34 hf hl29
        dsimp only [un2] at hf ⊢
        refine tw_iload_n X dX6_keeps_32 rfl 3 rfl ?_
        refine tw_iload_n X dX6_keeps_33 rfl 1 rfl ?_
        refine tw_icmp_ge (tgt := 55) X dX6_keeps_34 rfl hf (fun q33 hf => ?_) (fun q33 hf => ?_)
        · clear q33
          have hf30 := leafR hf hl29
          refine tw_sub [0, 1, 2] (lv' := [(0, .ref o), (1, .int a1), (2, .int a2)]) rfl ?_
          have hL := hk3 _ hf30
          exact hL
        · clear q33
          refine tw_aload_n X dX6_keeps_37 rfl 0 rfl ?_
          refine tg_shortest X  dX6_keeps_38 ?_
          refine tw_iload_n X dX6_keeps_41 rfl 3 rfl ?_
          refine tw_aload_n X dX6_keeps_42 rfl 0 rfl ?_
          refine tg_row X  dX6_keeps_43 ?_
          refine tw_iload_n X dX6_keeps_46 rfl 3 rfl ?_
          obtain ⟨x31, hx31, hf⟩ := bnd hf
          refine ta_row X hx31 dX6_keeps_47 ?_
          obtain ⟨g32, hg32, hf⟩ := bnd hf
          refine ts_shortest X hg32 dX6_keeps_48 ?_
          refine tw_iinc (q := 3) (v := (s28b + (1 : Int32))) (lv' := [(3, .int (s28b + (1 : Int32))), (0, .ref o), (1, .int a1), (2, .int a2)]) X dX6_keeps_49 rfl rfl (by decide) rfl ?_
          refine tw_goto (tgt := 32) X dX6_keeps_52 rfl ?_
          refine tw_sub [1, 2, 3, 0] (lv' := [(0, .ref o), (1, .int a1), (2, .int a2), (3, .int (s28b + (1 : Int32)))]) rfl ?_
          have hL := leafL hf hl29
          exact hL
noncomputable def tF_isPlace (a1 : Int32) : Int32 :=
  (tF_in (a1).toInt64 (0 : Int64) (5 : Int64))
set_option maxHeartbeats 4000000 in
theorem tC_isPlace {l : Launch} {D : va_G} {A : Nat → Prop} {o : Nat} {ad : Nat → Nat} {dI : ClassId} {g : St} (a1 : Int32) : Ct l yX6_isPlace cX6_isPlace 1 (some .boolean) 1 25 D vwCl [(dI, .int)] A (tW o ad dI) [.int a1] g (QZ D vwCl A (tW o ad dI) (tF_isPlace a1) g) := by
  generalize hf : tF_isPlace a1 = z
  unfold tF_isPlace at hf
  refine ct_intro (own := RX6) (lv0 := [(0, .int a1)]) (by decide) rfl (Nat.le_of_ble_eq_true rfl) rfl ?_
  intro p e s m args below meth c X hr
  refine tw_iload_n X dX6_isPlace_0 rfl 0 rfl ?_
  refine tw_i2l X dX6_isPlace_1 ?_
  refine tw_lconst (v := 0) X dX6_isPlace_2 rfl ?_
  refine tw_ldc2 (v := 5) X q1654 dX6_isPlace_3 ?_
  refine tw_callSz (As := [.long (a1).toInt64, .long (0 : Int64), .long (5 : Int64)]) (st := []) X (tC_in (g := g) (a1).toInt64 (0 : Int64) (5 : Int64)) tG_in tI_in ⟨Nat.le_of_ble_eq_true rfl, Nat.le_of_ble_eq_true rfl⟩ ⟨Nat.zero_le _, Nat.zero_le _⟩ rfl rfl (Nat.le_of_ble_eq_true rfl) dX6_isPlace_6 ?_
  intro hb1
  exact tw_zret X hr hb1 hf rfl dX6_isPlace_9
noncomputable def tF_isLong (a1 : Int32) : Int32 :=
  (tF_in (a1).toInt64 (0 : Int64) (6 : Int64))
set_option maxHeartbeats 4000000 in
theorem tC_isLong {l : Launch} {D : va_G} {A : Nat → Prop} {o : Nat} {ad : Nat → Nat} {dI : ClassId} {g : St} (a1 : Int32) : Ct l yX6_isLong cX6_isLong 1 (some .boolean) 1 25 D vwCl [(dI, .int)] A (tW o ad dI) [.int a1] g (QZ D vwCl A (tW o ad dI) (tF_isLong a1) g) := by
  generalize hf : tF_isLong a1 = z
  unfold tF_isLong at hf
  refine ct_intro (own := RX6) (lv0 := [(0, .int a1)]) (by decide) rfl (Nat.le_of_ble_eq_true rfl) rfl ?_
  intro p e s m args below meth c X hr
  refine tw_iload_n X dX6_isLong_0 rfl 0 rfl ?_
  refine tw_i2l X dX6_isLong_1 ?_
  refine tw_lconst (v := 0) X dX6_isLong_2 rfl ?_
  refine tw_ldc2 (v := 6) X q1677 dX6_isLong_3 ?_
  refine tw_callSz (As := [.long (a1).toInt64, .long (0 : Int64), .long (6 : Int64)]) (st := []) X (tC_in (g := g) (a1).toInt64 (0 : Int64) (6 : Int64)) tG_in tI_in ⟨Nat.le_of_ble_eq_true rfl, Nat.le_of_ble_eq_true rfl⟩ ⟨Nat.zero_le _, Nat.zero_le _⟩ rfl rfl (Nat.le_of_ble_eq_true rfl) dX6_isLong_6 ?_
  intro hb1
  exact tw_zret X hr hb1 hf rfl dX6_isLong_9
noncomputable def tF_isLink (g : St) (a1 : Int32) (a2 : Int32) : Option (Int32) :=
  (tF_doMeet g a1 a2).bind fun x1 =>
  if x1 = 0 then
    some (0 : Int32)
  else
    (tF_its g a1 (2 : Int32)).bind fun x3 =>
    (tF_its g a2 (1 : Int32)).bind fun x4 =>
    if x3 = x4 then
      some (1 : Int32)
    else
      some (0 : Int32)
set_option maxHeartbeats 4000000 in
theorem tC_isLink {l : Launch} {D : va_G} {A : Nat → Prop} {o : Nat} {ad : Nat → Nat} {dI : ClassId} {g : St} {a1 : Int32} {a2 : Int32} {z : Int32} (hf : tF_isLink g a1 a2 = some z) : Ct l yX6_isLink cX6_isLink 3 (some .boolean) 3 65 D vwCl [(dI, .int)] A (tW o ad dI) [.ref o, .int a1, .int a2] g (QZ D vwCl A (tW o ad dI) z g) := by
  unfold tF_isLink at hf
  refine ct_intro (own := RX6) (lv0 := [(0, .ref o), (1, .int a1), (2, .int a2)]) (by decide) rfl (Nat.le_of_ble_eq_true rfl) rfl ?_
  intro p e s m args below meth c X hr
  refine tw_aload_n X dX6_isLink_0 rfl 0 rfl ?_
  refine tw_iload_n X dX6_isLink_1 rfl 1 rfl ?_
  refine tw_iload_n X dX6_isLink_2 rfl 2 rfl ?_
  obtain ⟨x1, hx1, hf⟩ := bnd hf
  refine tw_callVz (As := [.int a1, .int a2]) (st := []) X (tC_doMeet hx1) tG_doMeet tI_doMeet ⟨Nat.le_of_ble_eq_true rfl, Nat.le_of_ble_eq_true rfl⟩ ⟨Nat.zero_le _, Nat.zero_le _⟩ 0 rfl rfl rfl rfl (Nat.le_of_ble_eq_true rfl) dX6_isLink_3 ?_
  intro hb2
  refine tw_if_eq (tgt := 28) X dX6_isLink_6 rfl hf (fun q6 hf => ?_) (fun q6 hf => ?_)
  · clear q6
    refine tw_iconst (v := 0) X dX6_isLink_28 rfl ?_
    exact tw_zret X hr (Or.inl rfl) (Option.some.inj hf) rfl dX6_isLink_29
  · clear q6
    refine tw_aload_n X dX6_isLink_9 rfl 0 rfl ?_
    refine tw_iload_n X dX6_isLink_10 rfl 1 rfl ?_
    refine tw_iconst (v := 2) X dX6_isLink_11 rfl ?_
    obtain ⟨x3, hx3, hf⟩ := bnd hf
    refine tw_callVi (As := [.int a1, .int (2 : Int32)]) (st := []) X (tC_its hx3) tG_its tI_its ⟨Nat.le_of_ble_eq_true rfl, Nat.le_of_ble_eq_true rfl⟩ ⟨Nat.zero_le _, Nat.zero_le _⟩ 0 rfl rfl rfl rfl (Nat.le_of_ble_eq_true rfl) dX6_isLink_12 ?_
    refine tw_aload_n X dX6_isLink_15 rfl 0 rfl ?_
    refine tw_iload_n X dX6_isLink_16 rfl 2 rfl ?_
    refine tw_iconst (v := 1) X dX6_isLink_17 rfl ?_
    obtain ⟨x4, hx4, hf⟩ := bnd hf
    refine tw_callVi (As := [.int a2, .int (1 : Int32)]) (st := [.int x3]) X (tC_its hx4) tG_its tI_its ⟨Nat.le_of_ble_eq_true rfl, Nat.le_of_ble_eq_true rfl⟩ ⟨Nat.zero_le _, Nat.zero_le _⟩ 0 rfl rfl rfl rfl (Nat.le_of_ble_eq_true rfl) dX6_isLink_18 ?_
    refine tw_icmp_ne (tgt := 28) X dX6_isLink_21 rfl hf (fun q5 hf => ?_) (fun q5 hf => ?_)
    · clear q5
      refine tw_iconst (v := 1) X dX6_isLink_24 rfl ?_
      refine tw_goto (tgt := 29) X dX6_isLink_25 rfl ?_
      exact tw_zret X hr (Or.inr rfl) (Option.some.inj hf) rfl dX6_isLink_29
    · clear q5
      refine tw_iconst (v := 0) X dX6_isLink_28 rfl ?_
      exact tw_zret X hr (Or.inl rfl) (Option.some.inj hf) rfl dX6_isLink_29
noncomputable def tF_isBarter (g : St) (a1 : Int32) (a2 : Int32) : Option (Int32) :=
  (tF_isPerson g a1).bind fun x1 =>
  if x1 = 0 then
    some (0 : Int32)
  else
    if (tF_in (a2).toInt64 (0 : Int64) (4 : Int64)) = 0 then
      some (0 : Int32)
    else
      some (1 : Int32)
set_option maxHeartbeats 4000000 in
theorem tC_isBarter {l : Launch} {D : va_G} {A : Nat → Prop} {o : Nat} {ad : Nat → Nat} {dI : ClassId} {g : St} {a1 : Int32} {a2 : Int32} {z : Int32} (hf : tF_isBarter g a1 a2 = some z) : Ct l yX6_isBarter cX6_isBarter 3 (some .boolean) 2 46 D vwCl [(dI, .int)] A (tW o ad dI) [.ref o, .int a1, .int a2] g (QZ D vwCl A (tW o ad dI) z g) := by
  unfold tF_isBarter at hf
  refine ct_intro (own := RX6) (lv0 := [(0, .ref o), (1, .int a1), (2, .int a2)]) (by decide) rfl (Nat.le_of_ble_eq_true rfl) rfl ?_
  intro p e s m args below meth c X hr
  refine tw_aload_n X dX6_isBarter_0 rfl 0 rfl ?_
  refine tw_iload_n X dX6_isBarter_1 rfl 1 rfl ?_
  obtain ⟨x1, hx1, hf⟩ := bnd hf
  refine tw_callVz (As := [.int a1]) (st := []) X (tC_isPerson hx1) tG_isPerson tI_isPerson ⟨Nat.le_of_ble_eq_true rfl, Nat.le_of_ble_eq_true rfl⟩ ⟨Nat.zero_le _, Nat.zero_le _⟩ 0 rfl rfl rfl rfl (Nat.le_of_ble_eq_true rfl) dX6_isBarter_2 ?_
  intro hb2
  refine tw_if_eq (tgt := 24) X dX6_isBarter_5 rfl hf (fun q5 hf => ?_) (fun q5 hf => ?_)
  · clear q5
    refine tw_iconst (v := 0) X dX6_isBarter_24 rfl ?_
    exact tw_zret X hr (Or.inl rfl) (Option.some.inj hf) rfl dX6_isBarter_25
  · clear q5
    refine tw_iload_n X dX6_isBarter_8 rfl 2 rfl ?_
    refine tw_i2l X dX6_isBarter_9 ?_
    refine tw_lconst (v := 0) X dX6_isBarter_10 rfl ?_
    refine tw_ldc2 (v := 4) X q1904 dX6_isBarter_11 ?_
    refine tw_callSz (As := [.long (a2).toInt64, .long (0 : Int64), .long (4 : Int64)]) (st := []) X (tC_in (g := g) (a2).toInt64 (0 : Int64) (4 : Int64)) tG_in tI_in ⟨Nat.le_of_ble_eq_true rfl, Nat.le_of_ble_eq_true rfl⟩ ⟨Nat.zero_le _, Nat.zero_le _⟩ rfl rfl (Nat.le_of_ble_eq_true rfl) dX6_isBarter_14 ?_
    intro hb3
    refine tw_if_eq (tgt := 24) X dX6_isBarter_17 rfl hf (fun q4 hf => ?_) (fun q4 hf => ?_)
    · clear q4
      refine tw_iconst (v := 0) X dX6_isBarter_24 rfl ?_
      exact tw_zret X hr (Or.inl rfl) (Option.some.inj hf) rfl dX6_isBarter_25
    · clear q4
      refine tw_iconst (v := 1) X dX6_isBarter_20 rfl ?_
      refine tw_goto (tgt := 25) X dX6_isBarter_21 rfl ?_
      exact tw_zret X hr (Or.inr rfl) (Option.some.inj hf) rfl dX6_isBarter_25
noncomputable def tF_barters : Nat → St → Int32 → Int32 → Option (St)
  | 0 => fun _ _ _ => none
  | d + 1 => fun g a1 a2 => let rc := tF_barters d
  (tF_its g a1 (1 : Int32)).bind fun x1 =>
  (pf g 0 19 ((g 0 19) ||| ((1 : Int32) <<< (x1 &&& 31)))).bind fun g2 =>
  iter (L := St × Int32) (T := St) (un2 fun s3a s3b => 
    (rd (s3a 1) 340 (0 : Int32)).bind fun x5 =>
    if x5 ≤ s3b then
      some (.inr s3a)
    else
      if a2 ≤ 0 then
        some (.inr s3a)
      else
        (tF_its s3a s3b (1 : Int32)).bind fun x8 =>
        (tF_doMeet s3a a1 s3b).bind fun x9 =>
        if x9 = 0 then
          some (.inl (s3a, (s3b + (1 : Int32))))
        else
          if x8 = x1 then
            some (.inl (s3a, (s3b + (1 : Int32))))
          else
            (rd (s3a 1) 340 ((6 : Int32) + x1)).bind fun x11 =>
            (rd (s3a 1) 340 ((6 : Int32) + x8)).bind fun x12 =>
            if x11 < x12 then
              some (.inl (s3a, (s3b + (1 : Int32))))
            else
              (tF_swaps s3a a1 s3b).bind fun g13 =>
              (rc g13 a1 (a2 - (1 : Int32))).bind fun g14 =>
              (tF_swaps g14 a1 s3b).bind fun g15 =>
              some (.inl (g15, (s3b + (1 : Int32))))) (g2, (0 : Int32))
set_option maxHeartbeats 4000000 in
theorem tC_barters {l : Launch} {D : va_G} {A : Nat → Prop} {o : Nat} {ad : Nat → Nat} {dI : ClassId} : ∀ (d : Nat) (g : St) (a1 : Int32) (a2 : Int32) (z : St), tF_barters d g a1 a2 = some z → Ct l yX6_barters cX6_barters 6 none (3 + 1 * d) (66 + 25 * d) D vwCl [(dI, .int)] A (tW o ad dI) [.ref o, .int a1, .int a2] g (QV D vwCl A (tW o ad dI) z) := by
  intro d
  induction d with
  | zero =>
    intro g a1 a2 z hf
    cases hf
  | succ d ih =>
    intro g a1 a2 z hf
    rw [tF_barters] at hf
    generalize hrc : tF_barters d = rc at hf ih
    dsimp only at hf
    have hrec := ih
    generalize hF : (3 + 1 * d) = F at hrec
    generalize hLo : (66 + 25 * d) = Lo at hrec
    refine ct_intro (own := RX6) (lv0 := [(0, .ref o), (1, .int a1), (2, .int a2)]) (by decide) rfl (Nat.le_of_ble_eq_true rfl) rfl ?_
    intro p e s m args below meth c X hr
    refine tw_aload_n X dX6_barters_0 rfl 0 rfl ?_
    refine tw_iload_n X dX6_barters_1 rfl 1 rfl ?_
    refine tw_iconst (v := 1) X dX6_barters_2 rfl ?_
    obtain ⟨x1, hx1, hf⟩ := bnd hf
    refine tw_callVi (As := [.int a1, .int (1 : Int32)]) (st := []) X (tC_its hx1) tG_its tI_its (rom_le (by omega) (by omega)) ⟨Nat.zero_le _, Nat.zero_le _⟩ 0 rfl rfl rfl rfl (Nat.le_of_ble_eq_true rfl) dX6_barters_3 ?_
    refine tw_istore_n (lv' := [(3, .int x1), (0, .ref o), (1, .int a1), (2, .int a2)]) X dX6_barters_6 rfl (by decide) rfl ?_
    refine tw_aload_n X dX6_barters_7 rfl 1 rfl ?_
    refine tw_dup X dX6_barters_8 rfl ?_
    refine tg_comesTo X  dX6_barters_9 ?_
    refine tw_iconst (v := 1) X dX6_barters_12 rfl ?_
    refine tw_iload_n X dX6_barters_13 rfl 0 rfl ?_
    refine tw_ishl X dX6_barters_14 ?_
    refine tw_ior X dX6_barters_15 ?_
    obtain ⟨g2, hg2, hf⟩ := bnd hf
    refine tp_comesTo X hg2 dX6_barters_16 ?_
    refine tw_iconst (v := 0) X dX6_barters_19 rfl ?_
    refine tw_istore (lv' := [(4, .int (0 : Int32)), (3, .int x1), (0, .ref o), (1, .int a1), (2, .int a2)]) X dX6_barters_20 (by decide) rfl ?_
    refine tw_sub [2, 3, 4, 1, 0] (lv' := [(0, .ref o), (1, .int a1), (2, .int a2), (3, .int x1), (4, .int (0 : Int32))]) rfl ?_
    refine it_walk (P := un2 fun s3a s3b => TW p l e (rom (3 + 1 * (d + 1)) (66 + 25 * (d + 1))) s m args below meth c (MQ below (QV D vwCl A (tW o ad dI) z) args s 0 0 A) D vwCl A (tW o ad dI) 6 0 0 s3a 22 [(0, .ref o), (1, .int a1), (2, .int a2), (3, .int x1), (4, .int s3b)] []) hf ?_
    rintro ⟨s3a, s3b⟩ zz21 hf hl4
    dsimp only [un2] at hf ⊢
    refine tw_iload X dX6_barters_22 4 rfl ?_
    refine tw_aload_n X dX6_barters_24 rfl 0 rfl ?_
    refine tg_s X  dX6_barters_25 ?_
    refine tw_iconst (v := 0) X dX6_barters_28 rfl ?_
    obtain ⟨x5, hx5, hf⟩ := bnd hf
    refine ta_s X hx5 dX6_barters_29 ?_
    refine tw_icmp_ge (tgt := 112) X dX6_barters_30 rfl hf (fun q20 hf => ?_) (fun q20 hf => ?_)
    · clear q20
      have hf6 := leafR hf hl4
      exact tw_vret X hr (Option.some.inj hf6) dX6_barters_112
    · clear q20
      refine tw_iload_n X dX6_barters_33 rfl 2 rfl ?_
      refine tw_if_le (tgt := 112) X dX6_barters_34 rfl hf (fun q19 hf => ?_) (fun q19 hf => ?_)
      · clear q19
        have hf7 := leafR hf hl4
        exact tw_vret X hr (Option.some.inj hf7) dX6_barters_112
      · clear q19
        refine tw_aload_n X dX6_barters_37 rfl 0 rfl ?_
        refine tw_iload X dX6_barters_38 4 rfl ?_
        refine tw_iconst (v := 1) X dX6_barters_40 rfl ?_
        obtain ⟨x8, hx8, hf⟩ := bnd hf
        refine tw_callVi (As := [.int s3b, .int (1 : Int32)]) (st := []) X (tC_its hx8) tG_its tI_its (rom_le (by omega) (by omega)) ⟨Nat.zero_le _, Nat.zero_le _⟩ 0 rfl rfl rfl rfl (Nat.le_of_ble_eq_true rfl) dX6_barters_41 ?_
        refine tw_istore (lv' := [(5, .int x8), (0, .ref o), (1, .int a1), (2, .int a2), (3, .int x1), (4, .int s3b)]) X dX6_barters_44 (by decide) rfl ?_
        refine tw_aload_n X dX6_barters_46 rfl 1 rfl ?_
        refine tw_iload_n X dX6_barters_47 rfl 2 rfl ?_
        refine tw_iload X dX6_barters_48 5 rfl ?_
        obtain ⟨x9, hx9, hf⟩ := bnd hf
        refine tw_callVz (As := [.int a1, .int s3b]) (st := []) X (tC_doMeet hx9) tG_doMeet tI_doMeet (rom_le (by omega) (by omega)) ⟨Nat.zero_le _, Nat.zero_le _⟩ 0 rfl rfl rfl rfl (Nat.le_of_ble_eq_true rfl) dX6_barters_50 ?_
        intro hb10
        refine tw_if_eq (tgt := 106) X dX6_barters_53 rfl hf (fun q18 hf => ?_) (fun q18 hf => ?_)
        · clear q18
          refine tw_iinc (q := 5) (v := (s3b + (1 : Int32))) (lv' := [(4, .int (s3b + (1 : Int32))), (5, .int x8), (0, .ref o), (1, .int a1), (2, .int a2), (3, .int x1)]) X dX6_barters_106 rfl rfl (by decide) rfl ?_
          refine tw_goto (tgt := 22) X dX6_barters_109 rfl ?_
          refine tw_sub [2, 3, 4, 5, 0] (lv' := [(0, .ref o), (1, .int a1), (2, .int a2), (3, .int x1), (4, .int (s3b + (1 : Int32)))]) rfl ?_
          have hL := leafL hf hl4
          exact hL
        · clear q18
          refine tw_iload X dX6_barters_56 0 rfl ?_
          refine tw_iload_n X dX6_barters_58 rfl 4 rfl ?_
          refine tw_icmp_eq (tgt := 106) X dX6_barters_59 rfl hf (fun q17 hf => ?_) (fun q17 hf => ?_)
          · clear q17
            refine tw_iinc (q := 5) (v := (s3b + (1 : Int32))) (lv' := [(4, .int (s3b + (1 : Int32))), (5, .int x8), (0, .ref o), (1, .int a1), (2, .int a2), (3, .int x1)]) X dX6_barters_106 rfl rfl (by decide) rfl ?_
            refine tw_goto (tgt := 22) X dX6_barters_109 rfl ?_
            refine tw_sub [2, 3, 4, 5, 0] (lv' := [(0, .ref o), (1, .int a1), (2, .int a2), (3, .int x1), (4, .int (s3b + (1 : Int32)))]) rfl ?_
            have hL := leafL hf hl4
            exact hL
          · clear q17
            refine tw_aload_n X dX6_barters_62 rfl 1 rfl ?_
            refine tg_s X  dX6_barters_63 ?_
            refine tw_bipush (v := 6) X dX6_barters_66 rfl ?_
            refine tw_iload_n X dX6_barters_68 rfl 4 rfl ?_
            refine tw_iadd X dX6_barters_69 ?_
            obtain ⟨x11, hx11, hf⟩ := bnd hf
            refine ta_s X hx11 dX6_barters_70 ?_
            refine tw_aload_n X dX6_barters_71 rfl 1 rfl ?_
            refine tg_s X  dX6_barters_72 ?_
            refine tw_bipush (v := 6) X dX6_barters_75 rfl ?_
            refine tw_iload X dX6_barters_77 0 rfl ?_
            refine tw_iadd X dX6_barters_79 ?_
            obtain ⟨x12, hx12, hf⟩ := bnd hf
            refine ta_s X hx12 dX6_barters_80 ?_
            refine tw_icmp_lt (tgt := 106) X dX6_barters_81 rfl hf (fun q16 hf => ?_) (fun q16 hf => ?_)
            · clear q16
              refine tw_iinc (q := 5) (v := (s3b + (1 : Int32))) (lv' := [(4, .int (s3b + (1 : Int32))), (5, .int x8), (0, .ref o), (1, .int a1), (2, .int a2), (3, .int x1)]) X dX6_barters_106 rfl rfl (by decide) rfl ?_
              refine tw_goto (tgt := 22) X dX6_barters_109 rfl ?_
              refine tw_sub [2, 3, 4, 5, 0] (lv' := [(0, .ref o), (1, .int a1), (2, .int a2), (3, .int x1), (4, .int (s3b + (1 : Int32)))]) rfl ?_
              have hL := leafL hf hl4
              exact hL
            · clear q16
              refine tw_aload_n X dX6_barters_84 rfl 1 rfl ?_
              refine tw_iload_n X dX6_barters_85 rfl 2 rfl ?_
              refine tw_iload X dX6_barters_86 5 rfl ?_
              obtain ⟨g13, hg13, hf⟩ := bnd hf
              refine tw_callVv (As := [.int a1, .int s3b]) (st := []) X (tC_swaps hg13) tG_swaps tI_swaps (rom_le (by omega) (by omega)) ⟨Nat.zero_le _, Nat.zero_le _⟩ 0 rfl rfl rfl rfl (Nat.le_of_ble_eq_true rfl) dX6_barters_88 ?_
              refine tw_aload_n X dX6_barters_91 rfl 1 rfl ?_
              refine tw_iload_n X dX6_barters_92 rfl 2 rfl ?_
              refine tw_iload_n X dX6_barters_93 rfl 3 rfl ?_
              refine tw_iconst (v := 1) X dX6_barters_94 rfl ?_
              refine tw_isub X dX6_barters_95 ?_
              obtain ⟨g14, hg14, hf⟩ := bnd hf
              refine tw_callVv (As := [.int a1, .int (a2 - (1 : Int32))]) (st := []) X (hrec _ _ _ _ hg14) tG_barters tI_barters (rom_le (by omega) (by omega)) ⟨Nat.zero_le _, Nat.zero_le _⟩ 0 rfl rfl rfl rfl (Nat.le_of_ble_eq_true rfl) dX6_barters_96 ?_
              refine tw_aload_n X dX6_barters_99 rfl 1 rfl ?_
              refine tw_iload_n X dX6_barters_100 rfl 2 rfl ?_
              refine tw_iload X dX6_barters_101 5 rfl ?_
              obtain ⟨g15, hg15, hf⟩ := bnd hf
              refine tw_callVv (As := [.int a1, .int s3b]) (st := []) X (tC_swaps hg15) tG_swaps tI_swaps (rom_le (by omega) (by omega)) ⟨Nat.zero_le _, Nat.zero_le _⟩ 0 rfl rfl rfl rfl (Nat.le_of_ble_eq_true rfl) dX6_barters_103 ?_
              refine tw_iinc (q := 5) (v := (s3b + (1 : Int32))) (lv' := [(4, .int (s3b + (1 : Int32))), (5, .int x8), (0, .ref o), (1, .int a1), (2, .int a2), (3, .int x1)]) X dX6_barters_106 rfl rfl (by decide) rfl ?_
              refine tw_goto (tgt := 22) X dX6_barters_109 rfl ?_
              refine tw_sub [2, 3, 4, 5, 0] (lv' := [(0, .ref o), (1, .int a1), (2, .int a2), (3, .int x1), (4, .int (s3b + (1 : Int32)))]) rfl ?_
              have hL := leafL hf hl4
              exact hL
