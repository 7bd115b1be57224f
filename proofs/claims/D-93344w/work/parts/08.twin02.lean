/-! THE TWIN's METHODS: a function and a contract each (printed by gen/mk_twin.py) -/
set_option maxRecDepth 100000
noncomputable def tF_keep (g : St) : Option (Int32 × St) :=
  iter (L := St × Int32) (T := Int32 × St) (un2 fun s1a s1b => 
    if (340 : Int32) ≤ s1b then
      (pf s1a 0 3 (1 : Int32)).bind fun g3 =>
      some (.inr ((1 : Int32), g3))
    else
      (rd (s1a 1) 340 s1b).bind fun x5 =>
      (wr s1a 2 340 s1b x5).bind fun g6 =>
      some (.inl (g6, (s1b + (1 : Int32))))) (g, (0 : Int32))
set_option maxHeartbeats 4000000 in
theorem tC_keep {l : Launch} {D : va_G} {A : Nat → Prop} {o : Nat} {ad : Nat → Nat} {dI : ClassId} {g : St} {z : Int32 × St} (hf : tF_keep g = some z) : Ct l yX6_keep cX6_keep 2 (some .int) 0 0 D vwCl [(dI, .int)] A (tW o ad dI) [.ref o] g (QI D vwCl A (tW o ad dI) z.1 z.2) := by
  unfold tF_keep at hf
  refine ct_intro (own := RX6) (lv0 := [(0, .ref o)]) (by decide) rfl (Nat.le_of_ble_eq_true rfl) rfl ?_
  intro p e s m args below meth c X hr
  refine tw_iconst (v := 0) X dX6_keep_0 rfl ?_
  refine tw_istore_n (lv' := [(1, .int (0 : Int32)), (0, .ref o)]) X dX6_keep_1 rfl (by decide) rfl ?_
  refine tw_sub [1, 0] (lv' := [(0, .ref o), (1, .int (0 : Int32))]) rfl ?_
  refine it_walk (P := un2 fun s1a s1b => TW p l e (rom 0 0) s m args below meth c (MQ below (QI D vwCl A (tW o ad dI) z.1 z.2) args s 0 0 A) D vwCl A (tW o ad dI) 2 0 0 s1a 2 [(0, .ref o), (1, .int s1b)] []) hf ?_
  rintro ⟨s1a, s1b⟩ zz8 hf hl2
  dsimp only [un2] at hf ⊢
  refine tw_iload_n X dX6_keep_2 rfl 1 rfl ?_
  refine tw_sipush (v := 340) X dX6_keep_3 rfl ?_
  refine tw_icmp_ge (tgt := 27) X dX6_keep_6 rfl hf (fun q7 hf => ?_) (fun q7 hf => ?_)
  · clear q7
    refine tw_aload_n X dX6_keep_27 rfl 0 rfl ?_
    refine tw_iconst (v := 1) X dX6_keep_28 rfl ?_
    obtain ⟨g3, hg3, hf⟩ := bnd hf
    refine tp_isKept X (Or.inr rfl) hg3 dX6_keep_29 ?_
    refine tw_iconst (v := 1) X dX6_keep_32 rfl ?_
    have hf4 := leafR hf hl2
    exact tw_iret X hr (prj1 hf4) (prj2 hf4) dX6_keep_33
  · clear q7
    refine tw_aload_n X dX6_keep_9 rfl 0 rfl ?_
    refine tg_kept X  dX6_keep_10 ?_
    refine tw_iload_n X dX6_keep_13 rfl 1 rfl ?_
    refine tw_aload_n X dX6_keep_14 rfl 0 rfl ?_
    refine tg_s X  dX6_keep_15 ?_
    refine tw_iload_n X dX6_keep_18 rfl 1 rfl ?_
    obtain ⟨x5, hx5, hf⟩ := bnd hf
    refine ta_s X hx5 dX6_keep_19 ?_
    obtain ⟨g6, hg6, hf⟩ := bnd hf
    refine ts_kept X hg6 dX6_keep_20 ?_
    refine tw_iinc (q := 1) (v := (s1b + (1 : Int32))) (lv' := [(1, .int (s1b + (1 : Int32))), (0, .ref o)]) X dX6_keep_21 rfl rfl (by decide) rfl ?_
    refine tw_goto (tgt := 2) X dX6_keep_24 rfl ?_
    refine tw_sub [1, 0] (lv' := [(0, .ref o), (1, .int (s1b + (1 : Int32)))]) rfl ?_
    have hL := leafL hf hl2
    exact hL
noncomputable def tF_again (g : St) : Option (Int32 × St) :=
  if (g 0 3) = 0 then
    some ((-3 : Int32), g)
  else
    iter (L := St × Int32) (T := Int32 × St) (un2 fun s1a s1b => 
      if (340 : Int32) ≤ s1b then
        (rd (s1a 1) 340 (0 : Int32)).bind fun x3 =>
        some (.inr (x3, s1a))
      else
        (rd (s1a 2) 340 s1b).bind fun x5 =>
        (wr s1a 1 340 s1b x5).bind fun g6 =>
        some (.inl (g6, (s1b + (1 : Int32))))) (g, (0 : Int32))
set_option maxHeartbeats 4000000 in
theorem tC_again {l : Launch} {D : va_G} {A : Nat → Prop} {o : Nat} {ad : Nat → Nat} {dI : ClassId} {g : St} {z : Int32 × St} (hf : tF_again g = some z) : Ct l yX6_again cX6_again 2 (some .int) 0 0 D vwCl [(dI, .int)] A (tW o ad dI) [.ref o] g (QI D vwCl A (tW o ad dI) z.1 z.2) := by
  unfold tF_again at hf
  refine ct_intro (own := RX6) (lv0 := [(0, .ref o)]) (by decide) rfl (Nat.le_of_ble_eq_true rfl) rfl ?_
  intro p e s m args below meth c X hr
  refine tw_aload_n X dX6_again_0 rfl 0 rfl ?_
  refine tg_isKept X  dX6_again_1 ?_
  refine tw_if_ne (tgt := 10) X dX6_again_4 rfl hf (fun q9 hf => ?_) (fun q9 hf => ?_)
  · clear q9
    refine tw_bipush (v := -3) X dX6_again_7 rfl ?_
    exact tw_iret X hr (prj1 hf) (prj2 hf) dX6_again_9
  · clear q9
    refine tw_iconst (v := 0) X dX6_again_10 rfl ?_
    refine tw_istore_n (lv' := [(1, .int (0 : Int32)), (0, .ref o)]) X dX6_again_11 rfl (by decide) rfl ?_
    refine tw_sub [1, 0] (lv' := [(0, .ref o), (1, .int (0 : Int32))]) rfl ?_
    refine it_walk (P := un2 fun s1a s1b => TW p l e (rom 0 0) s m args below meth c (MQ below (QI D vwCl A (tW o ad dI) z.1 z.2) args s 0 0 A) D vwCl A (tW o ad dI) 2 0 0 s1a 12 [(0, .ref o), (1, .int s1b)] []) hf ?_
    rintro ⟨s1a, s1b⟩ zz8 hf hl2
    dsimp only [un2] at hf ⊢
    refine tw_iload_n X dX6_again_12 rfl 1 rfl ?_
    refine tw_sipush (v := 340) X dX6_again_13 rfl ?_
    refine tw_icmp_ge (tgt := 37) X dX6_again_16 rfl hf (fun q7 hf => ?_) (fun q7 hf => ?_)
    · clear q7
      refine tw_aload_n X dX6_again_37 rfl 0 rfl ?_
      refine tg_s X  dX6_again_38 ?_
      refine tw_iconst (v := 0) X dX6_again_41 rfl ?_
      obtain ⟨x3, hx3, hf⟩ := bnd hf
      refine ta_s X hx3 dX6_again_42 ?_
      have hf4 := leafR hf hl2
      exact tw_iret X hr (prj1 hf4) (prj2 hf4) dX6_again_43
    · clear q7
      refine tw_aload_n X dX6_again_19 rfl 0 rfl ?_
      refine tg_s X  dX6_again_20 ?_
      refine tw_iload_n X dX6_again_23 rfl 1 rfl ?_
      refine tw_aload_n X dX6_again_24 rfl 0 rfl ?_
      refine tg_kept X  dX6_again_25 ?_
      refine tw_iload_n X dX6_again_28 rfl 1 rfl ?_
      obtain ⟨x5, hx5, hf⟩ := bnd hf
      refine ta_kept X hx5 dX6_again_29 ?_
      obtain ⟨g6, hg6, hf⟩ := bnd hf
      refine ts_s X hg6 dX6_again_30 ?_
      refine tw_iinc (q := 1) (v := (s1b + (1 : Int32))) (lv' := [(1, .int (s1b + (1 : Int32))), (0, .ref o)]) X dX6_again_31 rfl rfl (by decide) rfl ?_
      refine tw_goto (tgt := 12) X dX6_again_34 rfl ?_
      refine tw_sub [1, 0] (lv' := [(0, .ref o), (1, .int (s1b + (1 : Int32)))]) rfl ?_
      have hL := leafL hf hl2
      exact hL
noncomputable def tF_isKind (a1 : Int32) : Int32 :=
  (tF_in (a1).toInt64 (1 : Int64) (5 : Int64))
set_option maxHeartbeats 4000000 in
theorem tC_isKind {l : Launch} {D : va_G} {A : Nat → Prop} {o : Nat} {ad : Nat → Nat} {dI : ClassId} {g : St} (a1 : Int32) : Ct l yX6_isKind cX6_isKind 1 (some .boolean) 1 25 D vwCl [(dI, .int)] A (tW o ad dI) [.int a1] g (QZ D vwCl A (tW o ad dI) (tF_isKind a1) g) := by
  generalize hf : tF_isKind a1 = z
  unfold tF_isKind at hf
  refine ct_intro (own := RX6) (lv0 := [(0, .int a1)]) (by decide) rfl (Nat.le_of_ble_eq_true rfl) rfl ?_
  intro p e s m args below meth c X hr
  refine tw_iload_n X dX6_isKind_0 rfl 0 rfl ?_
  refine tw_i2l X dX6_isKind_1 ?_
  refine tw_lconst (v := 1) X dX6_isKind_2 rfl ?_
  refine tw_ldc2 (v := 5) X q1654 dX6_isKind_3 ?_
  refine tw_callSz (As := [.long (a1).toInt64, .long (1 : Int64), .long (5 : Int64)]) (st := []) X (tC_in (g := g) (a1).toInt64 (1 : Int64) (5 : Int64)) tG_in tI_in ⟨Nat.le_of_ble_eq_true rfl, Nat.le_of_ble_eq_true rfl⟩ ⟨Nat.zero_le _, Nat.zero_le _⟩ rfl rfl (Nat.le_of_ble_eq_true rfl) dX6_isKind_6 ?_
  intro hb1
  exact tw_zret X hr hb1 hf rfl dX6_isKind_9
noncomputable def tF_wholeSet (g : St) : Option (Int32) :=
  iter (L := Int32 × Int32) (T := Int32) (un2 fun s1a s1b => 
    (rd (g 1) 340 (0 : Int32)).bind fun x3 =>
    if x3 ≤ s1b then
      some (.inr s1a)
    else
      if s1b = (g 0 4) then
        some (.inl ((s1a ||| (0 : Int32)), (s1b + (1 : Int32))))
      else
        (tF_isWhole g s1b).bind fun x5 =>
        if x5 = 0 then
          some (.inl ((s1a ||| (0 : Int32)), (s1b + (1 : Int32))))
        else
          some (.inl ((s1a ||| ((1 : Int32) <<< (s1b &&& 31))), (s1b + (1 : Int32))))) ((0 : Int32), (0 : Int32))
set_option maxHeartbeats 4000000 in
theorem tC_wholeSet {l : Launch} {D : va_G} {A : Nat → Prop} {o : Nat} {ad : Nat → Nat} {dI : ClassId} {g : St} {z : Int32} (hf : tF_wholeSet g = some z) : Ct l yX6_wholeSet cX6_wholeSet 3 (some .int) 3 64 D vwCl [(dI, .int)] A (tW o ad dI) [.ref o] g (QI D vwCl A (tW o ad dI) z g) := by
  unfold tF_wholeSet at hf
  refine ct_intro (own := RX6) (lv0 := [(0, .ref o)]) (by decide) rfl (Nat.le_of_ble_eq_true rfl) rfl ?_
  intro p e s m args below meth c X hr
  refine tw_iconst (v := 0) X dX6_wholeSet_0 rfl ?_
  refine tw_istore_n (lv' := [(1, .int (0 : Int32)), (0, .ref o)]) X dX6_wholeSet_1 rfl (by decide) rfl ?_
  refine tw_iconst (v := 0) X dX6_wholeSet_2 rfl ?_
  refine tw_istore_n (lv' := [(2, .int (0 : Int32)), (1, .int (0 : Int32)), (0, .ref o)]) X dX6_wholeSet_3 rfl (by decide) rfl ?_
  refine tw_sub [2, 1, 0] (lv' := [(0, .ref o), (1, .int (0 : Int32)), (2, .int (0 : Int32))]) rfl ?_
  refine it_walk (P := un2 fun s1a s1b => TW p l e (rom 3 64) s m args below meth c (MQ below (QI D vwCl A (tW o ad dI) z g) args s 0 0 A) D vwCl A (tW o ad dI) 3 0 0 g 4 [(0, .ref o), (1, .int s1a), (2, .int s1b)] []) hf ?_
  rintro ⟨s1a, s1b⟩ zz10 hf hl2
  dsimp only [un2] at hf ⊢
  refine tw_iload_n X dX6_wholeSet_4 rfl 2 rfl ?_
  refine tw_aload_n X dX6_wholeSet_5 rfl 0 rfl ?_
  refine tg_s X  dX6_wholeSet_6 ?_
  refine tw_iconst (v := 0) X dX6_wholeSet_9 rfl ?_
  obtain ⟨x3, hx3, hf⟩ := bnd hf
  refine ta_s X hx3 dX6_wholeSet_10 ?_
  refine tw_icmp_ge (tgt := 46) X dX6_wholeSet_11 rfl hf (fun q9 hf => ?_) (fun q9 hf => ?_)
  · clear q9
    refine tw_iload_n X dX6_wholeSet_46 rfl 1 rfl ?_
    have hf4 := leafR hf hl2
    exact tw_iret X hr (Option.some.inj hf4) rfl dX6_wholeSet_47
  · clear q9
    refine tw_iload_n X dX6_wholeSet_14 rfl 1 rfl ?_
    refine tw_iload_n X dX6_wholeSet_15 rfl 2 rfl ?_
    refine tw_aload_n X dX6_wholeSet_16 rfl 0 rfl ?_
    refine tg_absent X  dX6_wholeSet_17 ?_
    refine tw_icmp_eq (tgt := 37) X dX6_wholeSet_20 rfl hf (fun q8 hf => ?_) (fun q8 hf => ?_)
    · clear q8
      refine tw_iconst (v := 0) X dX6_wholeSet_37 rfl ?_
      refine tw_ior X dX6_wholeSet_38 ?_
      refine tw_istore_n (lv' := [(1, .int (s1a ||| (0 : Int32))), (0, .ref o), (2, .int s1b)]) X dX6_wholeSet_39 rfl (by decide) rfl ?_
      refine tw_iinc (q := 2) (v := (s1b + (1 : Int32))) (lv' := [(2, .int (s1b + (1 : Int32))), (1, .int (s1a ||| (0 : Int32))), (0, .ref o)]) X dX6_wholeSet_40 rfl rfl (by decide) rfl ?_
      refine tw_goto (tgt := 4) X dX6_wholeSet_43 rfl ?_
      refine tw_sub [2, 1, 0] (lv' := [(0, .ref o), (1, .int (s1a ||| (0 : Int32))), (2, .int (s1b + (1 : Int32)))]) rfl ?_
      have hL := leafL hf hl2
      exact hL
    · clear q8
      refine tw_aload_n X dX6_wholeSet_23 rfl 0 rfl ?_
      refine tw_iload_n X dX6_wholeSet_24 rfl 2 rfl ?_
      obtain ⟨x5, hx5, hf⟩ := bnd hf
      refine tw_callVz (As := [.int s1b]) (st := [.int s1a]) X (tC_isWhole hx5) tG_isWhole tI_isWhole ⟨Nat.le_of_ble_eq_true rfl, Nat.le_of_ble_eq_true rfl⟩ ⟨Nat.zero_le _, Nat.zero_le _⟩ 0 rfl rfl rfl rfl (Nat.le_of_ble_eq_true rfl) dX6_wholeSet_25 ?_
      intro hb6
      refine tw_if_eq (tgt := 37) X dX6_wholeSet_28 rfl hf (fun q7 hf => ?_) (fun q7 hf => ?_)
      · clear q7
        refine tw_iconst (v := 0) X dX6_wholeSet_37 rfl ?_
        refine tw_ior X dX6_wholeSet_38 ?_
        refine tw_istore_n (lv' := [(1, .int (s1a ||| (0 : Int32))), (0, .ref o), (2, .int s1b)]) X dX6_wholeSet_39 rfl (by decide) rfl ?_
        refine tw_iinc (q := 2) (v := (s1b + (1 : Int32))) (lv' := [(2, .int (s1b + (1 : Int32))), (1, .int (s1a ||| (0 : Int32))), (0, .ref o)]) X dX6_wholeSet_40 rfl rfl (by decide) rfl ?_
        refine tw_goto (tgt := 4) X dX6_wholeSet_43 rfl ?_
        refine tw_sub [2, 1, 0] (lv' := [(0, .ref o), (1, .int (s1a ||| (0 : Int32))), (2, .int (s1b + (1 : Int32)))]) rfl ?_
        have hL := leafL hf hl2
        exact hL
      · clear q7
        refine tw_iconst (v := 1) X dX6_wholeSet_31 rfl ?_
        refine tw_iload_n X dX6_wholeSet_32 rfl 2 rfl ?_
        refine tw_ishl X dX6_wholeSet_33 ?_
        refine tw_goto (tgt := 38) X dX6_wholeSet_34 rfl ?_
        refine tw_ior X dX6_wholeSet_38 ?_
        refine tw_istore_n (lv' := [(1, .int (s1a ||| ((1 : Int32) <<< (s1b &&& 31)))), (0, .ref o), (2, .int s1b)]) X dX6_wholeSet_39 rfl (by decide) rfl ?_
        refine tw_iinc (q := 2) (v := (s1b + (1 : Int32))) (lv' := [(2, .int (s1b + (1 : Int32))), (1, .int (s1a ||| ((1 : Int32) <<< (s1b &&& 31)))), (0, .ref o)]) X dX6_wholeSet_40 rfl rfl (by decide) rfl ?_
        refine tw_goto (tgt := 4) X dX6_wholeSet_43 rfl ?_
        refine tw_sub [2, 1, 0] (lv' := [(0, .ref o), (1, .int (s1a ||| ((1 : Int32) <<< (s1b &&& 31)))), (2, .int (s1b + (1 : Int32)))]) rfl ?_
        have hL := leafL hf hl2
        exact hL
noncomputable def tF_change (g : St) (a1 : Int32) (a2 : Int32) (a3 : Int32) : Option (Int32 × St) :=
  (tF_isPerson g a1).bind fun x1 =>
  if x1 = 0 then
    some ((-1 : Int32), g)
  else
    if (tF_isPart a2 a3) = 0 then
      some ((-1 : Int32), g)
    else
      (tF_becomes g (tF_at a1 a2) a3).bind (un2 fun y4a y4b =>
      some (y4a, y4b))
set_option maxHeartbeats 4000000 in
theorem tC_change {l : Launch} {D : va_G} {A : Nat → Prop} {o : Nat} {ad : Nat → Nat} {dI : ClassId} {g : St} {a1 : Int32} {a2 : Int32} {a3 : Int32} {z : Int32 × St} (hf : tF_change g a1 a2 a3 = some z) : Ct l yX6_change cX6_change 4 (some .int) 3 66 D vwCl [(dI, .int)] A (tW o ad dI) [.ref o, .int a1, .int a2, .int a3] g (QI D vwCl A (tW o ad dI) z.1 z.2) := by
  unfold tF_change at hf
  refine ct_intro (own := RX6) (lv0 := [(0, .ref o), (1, .int a1), (2, .int a2), (3, .int a3)]) (by decide) rfl (Nat.le_of_ble_eq_true rfl) rfl ?_
  intro p e s m args below meth c X hr
  refine tw_aload_n X dX6_change_0 rfl 0 rfl ?_
  refine tw_iload_n X dX6_change_1 rfl 1 rfl ?_
  obtain ⟨x1, hx1, hf⟩ := bnd hf
  refine tw_callVz (As := [.int a1]) (st := []) X (tC_isPerson hx1) tG_isPerson tI_isPerson ⟨Nat.le_of_ble_eq_true rfl, Nat.le_of_ble_eq_true rfl⟩ ⟨Nat.zero_le _, Nat.zero_le _⟩ 0 rfl rfl rfl rfl (Nat.le_of_ble_eq_true rfl) dX6_change_2 ?_
  intro hb2
  refine tw_if_eq (tgt := 29) X dX6_change_5 rfl hf (fun q6 hf => ?_) (fun q6 hf => ?_)
  · clear q6
    refine tw_iconst (v := -1) X dX6_change_29 rfl ?_
    exact tw_iret X hr (prj1 hf) (prj2 hf) dX6_change_30
  · clear q6
    refine tw_iload_n X dX6_change_8 rfl 2 rfl ?_
    refine tw_iload_n X dX6_change_9 rfl 3 rfl ?_
    refine tw_callSz (As := [.int a2, .int a3]) (st := []) X (tC_isPart (g := g) a2 a3) tG_isPart tI_isPart ⟨Nat.le_of_ble_eq_true rfl, Nat.le_of_ble_eq_true rfl⟩ ⟨Nat.zero_le _, Nat.zero_le _⟩ rfl rfl (Nat.le_of_ble_eq_true rfl) dX6_change_10 ?_
    intro hb3
    refine tw_if_eq (tgt := 29) X dX6_change_13 rfl hf (fun q5 hf => ?_) (fun q5 hf => ?_)
    · clear q5
      refine tw_iconst (v := -1) X dX6_change_29 rfl ?_
      exact tw_iret X hr (prj1 hf) (prj2 hf) dX6_change_30
    · clear q5
      refine tw_aload_n X dX6_change_16 rfl 0 rfl ?_
      refine tw_iload_n X dX6_change_17 rfl 1 rfl ?_
      refine tw_iload_n X dX6_change_18 rfl 2 rfl ?_
      refine tw_callSi (As := [.int a1, .int a2]) (st := [.ref o]) X (tC_at (g := g) a1 a2) tG_at tI_at ⟨Nat.le_of_ble_eq_true rfl, Nat.le_of_ble_eq_true rfl⟩ ⟨Nat.zero_le _, Nat.zero_le _⟩ rfl rfl (Nat.le_of_ble_eq_true rfl) dX6_change_19 ?_
      refine tw_iload_n X dX6_change_22 rfl 3 rfl ?_
      obtain ⟨⟨y4a, y4b⟩, hy4, hf⟩ := bnd hf
      dsimp only [un2] at hf
      refine tw_callVi (As := [.int (tF_at a1 a2), .int a3]) (st := []) X (tC_becomes hy4) tG_becomes tI_becomes ⟨Nat.le_of_ble_eq_true rfl, Nat.le_of_ble_eq_true rfl⟩ ⟨Nat.zero_le _, Nat.zero_le _⟩ 0 rfl rfl rfl rfl (Nat.le_of_ble_eq_true rfl) dX6_change_23 ?_
      refine tw_goto (tgt := 30) X dX6_change_26 rfl ?_
      exact tw_iret X hr (prj1 hf) (prj2 hf) dX6_change_30
noncomputable def tF_remake (g : St) (a1 : Int32) (a2 : Int32) : Option (Int32 × St) :=
  (tF_isPerson g a1).bind fun x1 =>
  if x1 = 0 then
    some ((-1 : Int32), g)
  else
    if (tF_isKind a2) = 0 then
      some ((-1 : Int32), g)
    else
      (tF_becomes g (tF_at a1 (0 : Int32)) a2).bind (un2 fun y4a y4b =>
      some (y4a, y4b))
set_option maxHeartbeats 4000000 in
theorem tC_remake {l : Launch} {D : va_G} {A : Nat → Prop} {o : Nat} {ad : Nat → Nat} {dI : ClassId} {g : St} {a1 : Int32} {a2 : Int32} {z : Int32 × St} (hf : tF_remake g a1 a2 = some z) : Ct l yX6_remake cX6_remake 3 (some .int) 2 46 D vwCl [(dI, .int)] A (tW o ad dI) [.ref o, .int a1, .int a2] g (QI D vwCl A (tW o ad dI) z.1 z.2) := by
  unfold tF_remake at hf
  refine ct_intro (own := RX6) (lv0 := [(0, .ref o), (1, .int a1), (2, .int a2)]) (by decide) rfl (Nat.le_of_ble_eq_true rfl) rfl ?_
  intro p e s m args below meth c X hr
  refine tw_aload_n X dX6_remake_0 rfl 0 rfl ?_
  refine tw_iload_n X dX6_remake_1 rfl 1 rfl ?_
  obtain ⟨x1, hx1, hf⟩ := bnd hf
  refine tw_callVz (As := [.int a1]) (st := []) X (tC_isPerson hx1) tG_isPerson tI_isPerson ⟨Nat.le_of_ble_eq_true rfl, Nat.le_of_ble_eq_true rfl⟩ ⟨Nat.zero_le _, Nat.zero_le _⟩ 0 rfl rfl rfl rfl (Nat.le_of_ble_eq_true rfl) dX6_remake_2 ?_
  intro hb2
  refine tw_if_eq (tgt := 28) X dX6_remake_5 rfl hf (fun q6 hf => ?_) (fun q6 hf => ?_)
  · clear q6
    refine tw_iconst (v := -1) X dX6_remake_28 rfl ?_
    exact tw_iret X hr (prj1 hf) (prj2 hf) dX6_remake_29
  · clear q6
    refine tw_iload_n X dX6_remake_8 rfl 2 rfl ?_
    refine tw_callSz (As := [.int a2]) (st := []) X (tC_isKind (g := g) a2) tG_isKind tI_isKind ⟨Nat.le_of_ble_eq_true rfl, Nat.le_of_ble_eq_true rfl⟩ ⟨Nat.zero_le _, Nat.zero_le _⟩ rfl rfl (Nat.le_of_ble_eq_true rfl) dX6_remake_9 ?_
    intro hb3
    refine tw_if_eq (tgt := 28) X dX6_remake_12 rfl hf (fun q5 hf => ?_) (fun q5 hf => ?_)
    · clear q5
      refine tw_iconst (v := -1) X dX6_remake_28 rfl ?_
      exact tw_iret X hr (prj1 hf) (prj2 hf) dX6_remake_29
    · clear q5
      refine tw_aload_n X dX6_remake_15 rfl 0 rfl ?_
      refine tw_iload_n X dX6_remake_16 rfl 1 rfl ?_
      refine tw_iconst (v := 0) X dX6_remake_17 rfl ?_
      refine tw_callSi (As := [.int a1, .int (0 : Int32)]) (st := [.ref o]) X (tC_at (g := g) a1 (0 : Int32)) tG_at tI_at ⟨Nat.le_of_ble_eq_true rfl, Nat.le_of_ble_eq_true rfl⟩ ⟨Nat.zero_le _, Nat.zero_le _⟩ rfl rfl (Nat.le_of_ble_eq_true rfl) dX6_remake_18 ?_
      refine tw_iload_n X dX6_remake_21 rfl 2 rfl ?_
      obtain ⟨⟨y4a, y4b⟩, hy4, hf⟩ := bnd hf
      dsimp only [un2] at hf
      refine tw_callVi (As := [.int (tF_at a1 (0 : Int32)), .int a2]) (st := []) X (tC_becomes hy4) tG_becomes tI_becomes ⟨Nat.le_of_ble_eq_true rfl, Nat.le_of_ble_eq_true rfl⟩ ⟨Nat.zero_le _, Nat.zero_le _⟩ 0 rfl rfl rfl rfl (Nat.le_of_ble_eq_true rfl) dX6_remake_22 ?_
      refine tw_goto (tgt := 29) X dX6_remake_25 rfl ?_
      exact tw_iret X hr (prj1 hf) (prj2 hf) dX6_remake_29
noncomputable def tF_meets (g : St) (a1 : Int32) (a2 : Int32) (a3 : Int32) : Option (Int32 × St) :=
  (tF_isPerson g a1).bind fun x1 =>
  if x1 = 0 then
    some ((-1 : Int32), g)
  else
    (tF_isPerson g a2).bind fun x3 =>
    if x3 = 0 then
      some ((-1 : Int32), g)
    else
      if a1 = a2 then
        some ((-1 : Int32), g)
      else
        (tF_doMeet g a1 a2).bind fun x5 =>
        Option.bind (α := Int32) (β := Int32 × St)
          (if x5 = 0 then
            some (0 : Int32)
          else
            some (1 : Int32))
          (fun j7 => (tF_lets g a1 a2 a3).bind fun g9 =>
          (tF_lets g9 a2 a1 a3).bind fun g10 =>
          some (j7, g10))
set_option maxHeartbeats 4000000 in
theorem tC_meets {l : Launch} {D : va_G} {A : Nat → Prop} {o : Nat} {ad : Nat → Nat} {dI : ClassId} {g : St} {a1 : Int32} {a2 : Int32} {a3 : Int32} {z : Int32 × St} (hf : tF_meets g a1 a2 a3 = some z) : Ct l yX6_meets cX6_meets 5 (some .int) 3 67 D vwCl [(dI, .int)] A (tW o ad dI) [.ref o, .int a1, .int a2, .int a3] g (QI D vwCl A (tW o ad dI) z.1 z.2) := by
  unfold tF_meets at hf
  refine ct_intro (own := RX6) (lv0 := [(0, .ref o), (1, .int a1), (2, .int a2), (3, .int a3)]) (by decide) rfl (Nat.le_of_ble_eq_true rfl) rfl ?_
  intro p e s m args below meth c X hr
  refine tw_aload_n X dX6_meets_0 rfl 0 rfl ?_
  refine tw_iload_n X dX6_meets_1 rfl 1 rfl ?_
  obtain ⟨x1, hx1, hf⟩ := bnd hf
  refine tw_callVz (As := [.int a1]) (st := []) X (tC_isPerson hx1) tG_isPerson tI_isPerson ⟨Nat.le_of_ble_eq_true rfl, Nat.le_of_ble_eq_true rfl⟩ ⟨Nat.zero_le _, Nat.zero_le _⟩ 0 rfl rfl rfl rfl (Nat.le_of_ble_eq_true rfl) dX6_meets_2 ?_
  intro hb2
  refine tw_if_eq (tgt := 21) X dX6_meets_5 rfl hf (fun q15 hf => ?_) (fun q15 hf => ?_)
  · clear q15
    refine tw_iconst (v := -1) X dX6_meets_21 rfl ?_
    exact tw_iret X hr (prj1 hf) (prj2 hf) dX6_meets_22
  · clear q15
    refine tw_aload_n X dX6_meets_8 rfl 0 rfl ?_
    refine tw_iload_n X dX6_meets_9 rfl 2 rfl ?_
    obtain ⟨x3, hx3, hf⟩ := bnd hf
    refine tw_callVz (As := [.int a2]) (st := []) X (tC_isPerson hx3) tG_isPerson tI_isPerson ⟨Nat.le_of_ble_eq_true rfl, Nat.le_of_ble_eq_true rfl⟩ ⟨Nat.zero_le _, Nat.zero_le _⟩ 0 rfl rfl rfl rfl (Nat.le_of_ble_eq_true rfl) dX6_meets_10 ?_
    intro hb4
    refine tw_if_eq (tgt := 21) X dX6_meets_13 rfl hf (fun q14 hf => ?_) (fun q14 hf => ?_)
    · clear q14
      refine tw_iconst (v := -1) X dX6_meets_21 rfl ?_
      exact tw_iret X hr (prj1 hf) (prj2 hf) dX6_meets_22
    · clear q14
      refine tw_iload_n X dX6_meets_16 rfl 1 rfl ?_
      refine tw_iload_n X dX6_meets_17 rfl 2 rfl ?_
      refine tw_icmp_ne (tgt := 23) X dX6_meets_18 rfl hf (fun q13 hf => ?_) (fun q13 hf => ?_)
      · clear q13
        refine tw_iconst (v := -1) X dX6_meets_21 rfl ?_
        exact tw_iret X hr (prj1 hf) (prj2 hf) dX6_meets_22
      · clear q13
        refine tw_aload_n X dX6_meets_23 rfl 0 rfl ?_
        refine tw_iload_n X dX6_meets_24 rfl 1 rfl ?_
        refine tw_iload_n X dX6_meets_25 rfl 2 rfl ?_
        obtain ⟨x5, hx5, hf⟩ := bnd hf
        refine tw_callVz (As := [.int a1, .int a2]) (st := []) X (tC_doMeet hx5) tG_doMeet tI_doMeet ⟨Nat.le_of_ble_eq_true rfl, Nat.le_of_ble_eq_true rfl⟩ ⟨Nat.zero_le _, Nat.zero_le _⟩ 0 rfl rfl rfl rfl (Nat.le_of_ble_eq_true rfl) dX6_meets_26 ?_
        intro hb6
        refine bj_walk (P := fun j7 : Int32 => TW p l e (rom 3 67) s m args below meth c (MQ below (QI D vwCl A (tW o ad dI) z.1 z.2) args s 0 0 A) D vwCl A (tW o ad dI) 5 0 0 g 37 [(0, .ref o), (1, .int a1), (2, .int a2), (3, .int a3)] [.int j7]) hf ?_ ?_
        · intro j7 hf
          refine tw_istore (lv' := [(4, .int j7), (0, .ref o), (1, .int a1), (2, .int a2), (3, .int a3)]) X dX6_meets_37 (by decide) rfl ?_
          refine tw_aload_n X dX6_meets_39 rfl 1 rfl ?_
          refine tw_iload_n X dX6_meets_40 rfl 2 rfl ?_
          refine tw_iload_n X dX6_meets_41 rfl 3 rfl ?_
          refine tw_iload_n X dX6_meets_42 rfl 4 rfl ?_
          obtain ⟨g9, hg9, hf⟩ := bnd hf
          refine tw_callVv (As := [.int a1, .int a2, .int a3]) (st := []) X (tC_lets hg9) tG_lets tI_lets ⟨Nat.le_of_ble_eq_true rfl, Nat.le_of_ble_eq_true rfl⟩ ⟨Nat.zero_le _, Nat.zero_le _⟩ 0 rfl rfl rfl rfl (Nat.le_of_ble_eq_true rfl) dX6_meets_43 ?_
          refine tw_aload_n X dX6_meets_46 rfl 1 rfl ?_
          refine tw_iload_n X dX6_meets_47 rfl 3 rfl ?_
          refine tw_iload_n X dX6_meets_48 rfl 2 rfl ?_
          refine tw_iload_n X dX6_meets_49 rfl 4 rfl ?_
          obtain ⟨g10, hg10, hf⟩ := bnd hf
          refine tw_callVv (As := [.int a2, .int a1, .int a3]) (st := []) X (tC_lets hg10) tG_lets tI_lets ⟨Nat.le_of_ble_eq_true rfl, Nat.le_of_ble_eq_true rfl⟩ ⟨Nat.zero_le _, Nat.zero_le _⟩ 0 rfl rfl rfl rfl (Nat.le_of_ble_eq_true rfl) dX6_meets_50 ?_
          refine tw_iload X dX6_meets_53 0 rfl ?_
          exact tw_iret X hr (prj1 hf) (prj2 hf) dX6_meets_55
        · intro zz12 hf hk8
          refine tw_if_eq (tgt := 36) X dX6_meets_29 rfl hf (fun q11 hf => ?_) (fun q11 hf => ?_)
          · clear q11
            refine tw_iconst (v := 0) X dX6_meets_36 rfl ?_
            have hL := hk8 _ hf
            exact hL
          · clear q11
            refine tw_iconst (v := 1) X dX6_meets_32 rfl ?_
            refine tw_goto (tgt := 37) X dX6_meets_33 rfl ?_
            have hL := hk8 _ hf
            exact hL
noncomputable def tF_thing (g : St) (a1 : Int32) (a2 : Int32) : Option (Int32) :=
  if (tF_isThing a1) = 0 then
    some (-1 : Int32)
  else
    if a2 = (0 : Int32) then
      (rd (g 1) 340 ((6 : Int32) + a1)).bind fun x2 =>
      some x2
    else if a2 = (1 : Int32) then
      (rd (g 1) 340 ((14 : Int32) + a1)).bind fun x4 =>
      some x4
    else if a2 = (2 : Int32) then
      (tF_whoWith g (1 : Int32) a1).bind fun x6 =>
      some x6
    else if a2 = (3 : Int32) then
      (tF_whoWith g (2 : Int32) a1).bind fun x8 =>
      some x8
    else 
      some (-1 : Int32)
set_option maxHeartbeats 4000000 in
theorem tC_thing {l : Launch} {D : va_G} {A : Nat → Prop} {o : Nat} {ad : Nat → Nat} {dI : ClassId} {g : St} {a1 : Int32} {a2 : Int32} {z : Int32} (hf : tF_thing g a1 a2 = some z) : Ct l yX6_thing cX6_thing 3 (some .int) 3 67 D vwCl [(dI, .int)] A (tW o ad dI) [.ref o, .int a1, .int a2] g (QI D vwCl A (tW o ad dI) z g) := by
  unfold tF_thing at hf
  refine ct_intro (own := RX6) (lv0 := [(0, .ref o), (1, .int a1), (2, .int a2)]) (by decide) rfl (Nat.le_of_ble_eq_true rfl) rfl ?_
  intro p e s m args below meth c X hr
  refine tw_iload_n X dX6_thing_0 rfl 1 rfl ?_
  refine tw_callSz (As := [.int a1]) (st := []) X (tC_isThing (g := g) a1) tG_isThing tI_isThing ⟨Nat.le_of_ble_eq_true rfl, Nat.le_of_ble_eq_true rfl⟩ ⟨Nat.zero_le _, Nat.zero_le _⟩ rfl rfl (Nat.le_of_ble_eq_true rfl) dX6_thing_1 ?_
  intro hb1
  refine tw_if_ne (tgt := 9) X dX6_thing_4 rfl hf (fun q10 hf => ?_) (fun q10 hf => ?_)
  · clear q10
    refine tw_iconst (v := -1) X dX6_thing_7 rfl ?_
    exact tw_iret X hr (Option.some.inj hf) rfl dX6_thing_8
  · clear q10
    refine tw_iload_n X dX6_thing_9 rfl 2 rfl ?_
    by_cases w3 : a2 = (0 : Int32)
    · rw [if_pos w3] at hf
      refine tw_tableIn (off := 30) (tgt := 40) X dX6_thing_10 w3 (by decide) (by decide) rfl rfl ?_
      refine tw_aload_n X dX6_thing_40 rfl 0 rfl ?_
      refine tg_s X  dX6_thing_41 ?_
      refine tw_bipush (v := 6) X dX6_thing_44 rfl ?_
      refine tw_iload_n X dX6_thing_46 rfl 1 rfl ?_
      refine tw_iadd X dX6_thing_47 ?_
      obtain ⟨x2, hx2, hf⟩ := bnd hf
      refine ta_s X hx2 dX6_thing_48 ?_
      exact tw_iret X hr (Option.some.inj hf) rfl dX6_thing_49
    · rw [if_neg w3] at hf
      by_cases w5 : a2 = (1 : Int32)
      · rw [if_pos w5] at hf
        refine tw_tableIn (off := 40) (tgt := 50) X dX6_thing_10 w5 (by decide) (by decide) rfl rfl ?_
        refine tw_aload_n X dX6_thing_50 rfl 0 rfl ?_
        refine tg_s X  dX6_thing_51 ?_
        refine tw_bipush (v := 14) X dX6_thing_54 rfl ?_
        refine tw_iload_n X dX6_thing_56 rfl 1 rfl ?_
        refine tw_iadd X dX6_thing_57 ?_
        obtain ⟨x4, hx4, hf⟩ := bnd hf
        refine ta_s X hx4 dX6_thing_58 ?_
        exact tw_iret X hr (Option.some.inj hf) rfl dX6_thing_59
      · rw [if_neg w5] at hf
        by_cases w7 : a2 = (2 : Int32)
        · rw [if_pos w7] at hf
          refine tw_tableIn (off := 50) (tgt := 60) X dX6_thing_10 w7 (by decide) (by decide) rfl rfl ?_
          refine tw_aload_n X dX6_thing_60 rfl 0 rfl ?_
          refine tw_iconst (v := 1) X dX6_thing_61 rfl ?_
          refine tw_iload_n X dX6_thing_62 rfl 1 rfl ?_
          obtain ⟨x6, hx6, hf⟩ := bnd hf
          refine tw_callVi (As := [.int (1 : Int32), .int a1]) (st := []) X (tC_whoWith hx6) tG_whoWith tI_whoWith ⟨Nat.le_of_ble_eq_true rfl, Nat.le_of_ble_eq_true rfl⟩ ⟨Nat.zero_le _, Nat.zero_le _⟩ 0 rfl rfl rfl rfl (Nat.le_of_ble_eq_true rfl) dX6_thing_63 ?_
          exact tw_iret X hr (Option.some.inj hf) rfl dX6_thing_66
        · rw [if_neg w7] at hf
          by_cases w9 : a2 = (3 : Int32)
          · rw [if_pos w9] at hf
            refine tw_tableIn (off := 57) (tgt := 67) X dX6_thing_10 w9 (by decide) (by decide) rfl rfl ?_
            refine tw_aload_n X dX6_thing_67 rfl 0 rfl ?_
            refine tw_iconst (v := 2) X dX6_thing_68 rfl ?_
            refine tw_iload_n X dX6_thing_69 rfl 1 rfl ?_
            obtain ⟨x8, hx8, hf⟩ := bnd hf
            refine tw_callVi (As := [.int (2 : Int32), .int a1]) (st := []) X (tC_whoWith hx8) tG_whoWith tI_whoWith ⟨Nat.le_of_ble_eq_true rfl, Nat.le_of_ble_eq_true rfl⟩ ⟨Nat.zero_le _, Nat.zero_le _⟩ 0 rfl rfl rfl rfl (Nat.le_of_ble_eq_true rfl) dX6_thing_70 ?_
            exact tw_iret X hr (Option.some.inj hf) rfl dX6_thing_73
          · rw [if_neg w9] at hf
            refine tw_tableOut (tgt := 74) X dX6_thing_10 (by have w3' : a2.toInt ≠ 0 := i32_ne w3; have w5' : a2.toInt ≠ 1 := i32_ne w5; have w7' : a2.toInt ≠ 2 := i32_ne w7; have w9' : a2.toInt ≠ 3 := i32_ne w9; omega) rfl ?_
            refine tw_iconst (v := -1) X dX6_thing_74 rfl ?_
            exact tw_iret X hr (Option.some.inj hf) rfl dX6_thing_75
noncomputable def tF_state (g : St) (a1 : Int32) : Option (Int32) :=
  if a1 = (0 : Int32) then
    (tF_wholeSet g).bind fun x1 =>
    some x1
  else if a1 = (1 : Int32) then
    (tF_coinsAll g).bind fun x3 =>
    some x3
  else if a1 = (2 : Int32) then
    (rd (g 1) 340 (2 : Int32)).bind fun x5 =>
    some x5
  else if a1 = (3 : Int32) then
    (rd (g 1) 340 (4 : Int32)).bind fun x7 =>
    some x7
  else 
    some (-1 : Int32)
set_option maxHeartbeats 4000000 in
theorem tC_state {l : Launch} {D : va_G} {A : Nat → Prop} {o : Nat} {ad : Nat → Nat} {dI : ClassId} {g : St} {a1 : Int32} {z : Int32} (hf : tF_state g a1 = some z) : Ct l yX6_state cX6_state 2 (some .int) 4 86 D vwCl [(dI, .int)] A (tW o ad dI) [.ref o, .int a1] g (QI D vwCl A (tW o ad dI) z g) := by
  unfold tF_state at hf
  refine ct_intro (own := RX6) (lv0 := [(0, .ref o), (1, .int a1)]) (by decide) rfl (Nat.le_of_ble_eq_true rfl) rfl ?_
  intro p e s m args below meth c X hr
  refine tw_iload_n X dX6_state_0 rfl 1 rfl ?_
  by_cases w2 : a1 = (0 : Int32)
  · rw [if_pos w2] at hf
    refine tw_tableIn (off := 31) (tgt := 32) X dX6_state_1 w2 (by decide) (by decide) rfl rfl ?_
    refine tw_aload_n X dX6_state_32 rfl 0 rfl ?_
    obtain ⟨x1, hx1, hf⟩ := bnd hf
    refine tw_callVi (As := []) (st := []) X (tC_wholeSet hx1) tG_wholeSet tI_wholeSet ⟨Nat.le_of_ble_eq_true rfl, Nat.le_of_ble_eq_true rfl⟩ ⟨Nat.zero_le _, Nat.zero_le _⟩ 0 rfl rfl rfl rfl (Nat.le_of_ble_eq_true rfl) dX6_state_33 ?_
    exact tw_iret X hr (Option.some.inj hf) rfl dX6_state_36
  · rw [if_neg w2] at hf
    by_cases w4 : a1 = (1 : Int32)
    · rw [if_pos w4] at hf
      refine tw_tableIn (off := 36) (tgt := 37) X dX6_state_1 w4 (by decide) (by decide) rfl rfl ?_
      refine tw_aload_n X dX6_state_37 rfl 0 rfl ?_
      obtain ⟨x3, hx3, hf⟩ := bnd hf
      refine tw_callVi (As := []) (st := []) X (tC_coinsAll hx3) tG_coinsAll tI_coinsAll ⟨Nat.le_of_ble_eq_true rfl, Nat.le_of_ble_eq_true rfl⟩ ⟨Nat.zero_le _, Nat.zero_le _⟩ 0 rfl rfl rfl rfl (Nat.le_of_ble_eq_true rfl) dX6_state_38 ?_
      exact tw_iret X hr (Option.some.inj hf) rfl dX6_state_41
    · rw [if_neg w4] at hf
      by_cases w6 : a1 = (2 : Int32)
      · rw [if_pos w6] at hf
        refine tw_tableIn (off := 41) (tgt := 42) X dX6_state_1 w6 (by decide) (by decide) rfl rfl ?_
        refine tw_aload_n X dX6_state_42 rfl 0 rfl ?_
        refine tg_s X  dX6_state_43 ?_
        refine tw_iconst (v := 2) X dX6_state_46 rfl ?_
        obtain ⟨x5, hx5, hf⟩ := bnd hf
        refine ta_s X hx5 dX6_state_47 ?_
        exact tw_iret X hr (Option.some.inj hf) rfl dX6_state_48
      · rw [if_neg w6] at hf
        by_cases w8 : a1 = (3 : Int32)
        · rw [if_pos w8] at hf
          refine tw_tableIn (off := 48) (tgt := 49) X dX6_state_1 w8 (by decide) (by decide) rfl rfl ?_
          refine tw_aload_n X dX6_state_49 rfl 0 rfl ?_
          refine tg_s X  dX6_state_50 ?_
          refine tw_iconst (v := 4) X dX6_state_53 rfl ?_
          obtain ⟨x7, hx7, hf⟩ := bnd hf
          refine ta_s X hx7 dX6_state_54 ?_
          exact tw_iret X hr (Option.some.inj hf) rfl dX6_state_55
        · rw [if_neg w8] at hf
          refine tw_tableOut (tgt := 56) X dX6_state_1 (by have w2' : a1.toInt ≠ 0 := i32_ne w2; have w4' : a1.toInt ≠ 1 := i32_ne w4; have w6' : a1.toInt ≠ 2 := i32_ne w6; have w8' : a1.toInt ≠ 3 := i32_ne w8; omega) rfl ?_
          refine tw_iconst (v := -1) X dX6_state_56 rfl ?_
          exact tw_iret X hr (Option.some.inj hf) rfl dX6_state_57
noncomputable def tF_isNumber (g : St) (a1 : Int32) : Option (Int32) :=
  if a1 < 0 then
    some (0 : Int32)
  else
    (dv a1 (10 : Int32)).bind fun x1 =>
    (rm a1 (10 : Int32)).bind fun x2 =>
    (tF_isChange g x1 x2).bind fun x3 =>
    if x3 = 0 then
      some (0 : Int32)
    else
      some (1 : Int32)
set_option maxHeartbeats 4000000 in
theorem tC_isNumber {l : Launch} {D : va_G} {A : Nat → Prop} {o : Nat} {ad : Nat → Nat} {dI : ClassId} {g : St} {a1 : Int32} {z : Int32} (hf : tF_isNumber g a1 = some z) : Ct l yX6_isNumber cX6_isNumber 2 (some .boolean) 3 68 D vwCl [(dI, .int)] A (tW o ad dI) [.ref o, .int a1] g (QZ D vwCl A (tW o ad dI) z g) := by
  unfold tF_isNumber at hf
  refine ct_intro (own := RX6) (lv0 := [(0, .ref o), (1, .int a1)]) (by decide) rfl (Nat.le_of_ble_eq_true rfl) rfl ?_
  intro p e s m args below meth c X hr
  refine tw_iload_n X dX6_isNumber_0 rfl 1 rfl ?_
  refine tw_if_lt (tgt := 23) X dX6_isNumber_1 rfl hf (fun q6 hf => ?_) (fun q6 hf => ?_)
  · clear q6
    refine tw_iconst (v := 0) X dX6_isNumber_23 rfl ?_
    exact tw_zret X hr (Or.inl rfl) (Option.some.inj hf) rfl dX6_isNumber_24
  · clear q6
    refine tw_aload_n X dX6_isNumber_4 rfl 0 rfl ?_
    refine tw_iload_n X dX6_isNumber_5 rfl 1 rfl ?_
    refine tw_bipush (v := 10) X dX6_isNumber_6 rfl ?_
    obtain ⟨x1, hx1, hf⟩ := bnd hf
    refine tw_idivV X dX6_isNumber_8 hx1 ?_
    refine tw_iload_n X dX6_isNumber_9 rfl 1 rfl ?_
    refine tw_bipush (v := 10) X dX6_isNumber_10 rfl ?_
    obtain ⟨x2, hx2, hf⟩ := bnd hf
    refine tw_iremV X dX6_isNumber_12 hx2 ?_
    obtain ⟨x3, hx3, hf⟩ := bnd hf
    refine tw_callVz (As := [.int x1, .int x2]) (st := []) X (tC_isChange hx3) tG_isChange tI_isChange ⟨Nat.le_of_ble_eq_true rfl, Nat.le_of_ble_eq_true rfl⟩ ⟨Nat.zero_le _, Nat.zero_le _⟩ 0 rfl rfl rfl rfl (Nat.le_of_ble_eq_true rfl) dX6_isNumber_13 ?_
    intro hb4
    refine tw_if_eq (tgt := 23) X dX6_isNumber_16 rfl hf (fun q5 hf => ?_) (fun q5 hf => ?_)
    · clear q5
      refine tw_iconst (v := 0) X dX6_isNumber_23 rfl ?_
      exact tw_zret X hr (Or.inl rfl) (Option.some.inj hf) rfl dX6_isNumber_24
    · clear q5
      refine tw_iconst (v := 1) X dX6_isNumber_19 rfl ?_
      refine tw_goto (tgt := 24) X dX6_isNumber_20 rfl ?_
      exact tw_zret X hr (Or.inr rfl) (Option.some.inj hf) rfl dX6_isNumber_24
noncomputable def tF_back (g : St) : Option (Int32 × St) :=
  (rd (g 1) 340 (4 : Int32)).bind fun x1 =>
  if x1 = 0 then
    some ((-3 : Int32), g)
  else
    (rd (g 1) 340 (4 : Int32)).bind fun x2 =>
    (rd (g 1) 340 (((70 : Int32) + ((3 : Int32) * x2)) - (3 : Int32))).bind fun x3 =>
    (dv x3 (10 : Int32)).bind fun x4 =>
    (rm x3 (10 : Int32)).bind fun x5 =>
    (tF_its g x4 (1 : Int32)).bind fun x6 =>
    (rd (g 1) 340 ((((70 : Int32) + ((3 : Int32) * x2)) - (3 : Int32)) + (1 : Int32))).bind fun x7 =>
    Option.bind (α := Int32) (β := Int32 × St)
      (if x6 = x7 then
        some (1 : Int32)
      else
        some (0 : Int32))
      (fun j8 => jn (S := St) (T := Int32 × St)
        (if x5 = (9 : Int32) then
          (rd (g 1) 340 ((((70 : Int32) + ((3 : Int32) * x2)) - (3 : Int32)) + (2 : Int32))).bind fun x14 =>
          if j8 = 0 then
            some (.inr ((-4 : Int32), g))
          else
            (rd (g 1) 340 ((14 : Int32) + x14)).bind fun x16 =>
            if x16 = 0 then
              some (.inr ((-4 : Int32), g))
            else
              (tF_its g x4 (1 : Int32)).bind fun x18 =>
              (rd (g 1) 340 ((14 : Int32) + x18)).bind fun x19 =>
              if x19 = (99 : Int32) then
                some (.inr ((-4 : Int32), g))
              else
                (tF_undoes g x3 x14 (0 : Int32)).bind fun g21 =>
                some (.inl g21)
        else
          if j8 = 0 then
            some (.inr ((-4 : Int32), g))
          else
            (tF_its g x5 (1 : Int32)).bind fun x26 =>
            (rd (g 1) 340 ((((70 : Int32) + ((3 : Int32) * x2)) - (3 : Int32)) + (2 : Int32))).bind fun x27 =>
            if x26 = x27 then
              (tF_swaps g x4 x5).bind fun g28 =>
              some (.inl g28)
            else
              some (.inr ((-4 : Int32), g)))
        (fun j10 => (rd (j10 1) 340 (4 : Int32)).bind fun x12 =>
        (wr j10 1 340 (4 : Int32) (x12 - (1 : Int32))).bind fun g13 =>
        some (x3, g13)))
set_option maxHeartbeats 4000000 in
theorem tC_back {l : Launch} {D : va_G} {A : Nat → Prop} {o : Nat} {ad : Nat → Nat} {dI : ClassId} {g : St} {z : Int32 × St} (hf : tF_back g = some z) : Ct l yX6_back cX6_back 7 (some .int) 4 91 D vwCl [(dI, .int)] A (tW o ad dI) [.ref o] g (QI D vwCl A (tW o ad dI) z.1 z.2) := by
  unfold tF_back at hf
  refine ct_intro (own := RX6) (lv0 := [(0, .ref o)]) (by decide) rfl (Nat.le_of_ble_eq_true rfl) rfl ?_
  intro p e s m args below meth c X hr
  refine tw_aload_n X dX6_back_0 rfl 0 rfl ?_
  refine tg_s X  dX6_back_1 ?_
  refine tw_iconst (v := 4) X dX6_back_4 rfl ?_
  obtain ⟨x1, hx1, hf⟩ := bnd hf
  refine ta_s X hx1 dX6_back_5 ?_
  refine tw_if_ne (tgt := 12) X dX6_back_6 rfl hf (fun q36 hf => ?_) (fun q36 hf => ?_)
  · clear q36
    refine tw_bipush (v := -3) X dX6_back_9 rfl ?_
    exact tw_iret X hr (prj1 hf) (prj2 hf) dX6_back_11
  · clear q36
    refine tw_bipush (v := 70) X dX6_back_12 rfl ?_
    refine tw_iconst (v := 3) X dX6_back_14 rfl ?_
    refine tw_aload_n X dX6_back_15 rfl 0 rfl ?_
    refine tg_s X  dX6_back_16 ?_
    refine tw_iconst (v := 4) X dX6_back_19 rfl ?_
    obtain ⟨x2, hx2, hf⟩ := bnd hf
    refine ta_s X hx2 dX6_back_20 ?_
    refine tw_imul X dX6_back_21 ?_
    refine tw_iadd X dX6_back_22 ?_
    refine tw_iconst (v := 3) X dX6_back_23 rfl ?_
    refine tw_isub X dX6_back_24 ?_
    refine tw_istore_n (lv' := [(1, .int (((70 : Int32) + ((3 : Int32) * x2)) - (3 : Int32))), (0, .ref o)]) X dX6_back_25 rfl (by decide) rfl ?_
    refine tw_aload_n X dX6_back_26 rfl 1 rfl ?_
    refine tg_s X  dX6_back_27 ?_
    refine tw_iload_n X dX6_back_30 rfl 0 rfl ?_
    obtain ⟨x3, hx3, hf⟩ := bnd hf
    refine ta_s X hx3 dX6_back_31 ?_
    refine tw_istore_n (lv' := [(2, .int x3), (1, .int (((70 : Int32) + ((3 : Int32) * x2)) - (3 : Int32))), (0, .ref o)]) X dX6_back_32 rfl (by decide) rfl ?_
    refine tw_iload_n X dX6_back_33 rfl 0 rfl ?_
    refine tw_bipush (v := 10) X dX6_back_34 rfl ?_
    obtain ⟨x4, hx4, hf⟩ := bnd hf
    refine tw_idivV X dX6_back_36 hx4 ?_
    refine tw_istore_n (lv' := [(3, .int x4), (2, .int x3), (1, .int (((70 : Int32) + ((3 : Int32) * x2)) - (3 : Int32))), (0, .ref o)]) X dX6_back_37 rfl (by decide) rfl ?_
    refine tw_iload_n X dX6_back_38 rfl 1 rfl ?_
    refine tw_bipush (v := 10) X dX6_back_39 rfl ?_
    obtain ⟨x5, hx5, hf⟩ := bnd hf
    refine tw_iremV X dX6_back_41 hx5 ?_
    refine tw_istore (lv' := [(4, .int x5), (3, .int x4), (2, .int x3), (1, .int (((70 : Int32) + ((3 : Int32) * x2)) - (3 : Int32))), (0, .ref o)]) X dX6_back_42 (by decide) rfl ?_
    refine tw_aload_n X dX6_back_44 rfl 4 rfl ?_
    refine tw_iload_n X dX6_back_45 rfl 1 rfl ?_
    refine tw_iconst (v := 1) X dX6_back_46 rfl ?_
    obtain ⟨x6, hx6, hf⟩ := bnd hf
    refine tw_callVi (As := [.int x4, .int (1 : Int32)]) (st := []) X (tC_its hx6) tG_its tI_its ⟨Nat.le_of_ble_eq_true rfl, Nat.le_of_ble_eq_true rfl⟩ ⟨Nat.zero_le _, Nat.zero_le _⟩ 0 rfl rfl rfl rfl (Nat.le_of_ble_eq_true rfl) dX6_back_47 ?_
    refine tw_aload_n X dX6_back_50 rfl 4 rfl ?_
    refine tg_s X  dX6_back_51 ?_
    refine tw_iload_n X dX6_back_54 rfl 3 rfl ?_
    refine tw_iconst (v := 1) X dX6_back_55 rfl ?_
    refine tw_iadd X dX6_back_56 ?_
    obtain ⟨x7, hx7, hf⟩ := bnd hf
    refine ta_s X hx7 dX6_back_57 ?_
    refine bj_walk (P := fun j8 : Int32 => TW p l e (rom 4 91) s m args below meth c (MQ below (QI D vwCl A (tW o ad dI) z.1 z.2) args s 0 0 A) D vwCl A (tW o ad dI) 7 0 0 g 66 [(0, .ref o), (1, .int (((70 : Int32) + ((3 : Int32) * x2)) - (3 : Int32))), (2, .int x3), (3, .int x4), (4, .int x5)] [.int j8]) hf ?_ ?_
    · intro j8 hf
      refine tw_istore (lv' := [(5, .int j8), (0, .ref o), (1, .int (((70 : Int32) + ((3 : Int32) * x2)) - (3 : Int32))), (2, .int x3), (3, .int x4), (4, .int x5)]) X dX6_back_66 (by decide) rfl ?_
      refine tw_iload X dX6_back_68 5 rfl ?_
      refine tw_bipush (v := 9) X dX6_back_70 rfl ?_
      refine jn_walk (P := fun j10 : St => TW p l e (rom 4 91) s m args below meth c (MQ below (QI D vwCl A (tW o ad dI) z.1 z.2) args s 0 0 A) D vwCl A (tW o ad dI) 7 0 0 j10 169 [(0, .ref o), (2, .int x3)] []) hf ?_ ?_
      · intro j10 hf
        refine tw_aload_n X dX6_back_169 rfl 0 rfl ?_
        refine tg_s X  dX6_back_170 ?_
        refine tw_iconst (v := 4) X dX6_back_173 rfl ?_
        refine tw_dup2_11 X dX6_back_174 rfl rfl ?_
        obtain ⟨x12, hx12, hf⟩ := bnd hf
        refine ta_s X hx12 dX6_back_175 ?_
        refine tw_iconst (v := 1) X dX6_back_176 rfl ?_
        refine tw_isub X dX6_back_177 ?_
        obtain ⟨g13, hg13, hf⟩ := bnd hf
        refine ts_s X hg13 dX6_back_178 ?_
        refine tw_iload_n X dX6_back_179 rfl 1 rfl ?_
        exact tw_iret X hr (prj1 hf) (prj2 hf) dX6_back_180
      · intro zz33 hf hk11
        refine tw_icmp_ne (tgt := 136) X dX6_back_72 rfl hf (fun q32 hf => ?_) (fun q32 hf => ?_)
        · clear q32
          refine tw_aload_n X dX6_back_75 rfl 1 rfl ?_
          refine tg_s X  dX6_back_76 ?_
          refine tw_iload_n X dX6_back_79 rfl 2 rfl ?_
          refine tw_iconst (v := 2) X dX6_back_80 rfl ?_
          refine tw_iadd X dX6_back_81 ?_
          obtain ⟨x14, hx14, hf⟩ := bnd hf
          refine ta_s X hx14 dX6_back_82 ?_
          refine tw_istore (lv' := [(6, .int x14), (5, .int j8), (0, .ref o), (1, .int (((70 : Int32) + ((3 : Int32) * x2)) - (3 : Int32))), (2, .int x3), (3, .int x4), (4, .int x5)]) X dX6_back_83 (by decide) rfl ?_
          refine tw_iload X dX6_back_85 1 rfl ?_
          refine tw_if_eq (tgt := 122) X dX6_back_87 rfl hf (fun q24 hf => ?_) (fun q24 hf => ?_)
          · clear q24
            refine tw_bipush (v := -4) X dX6_back_122 rfl ?_
            have hf15 := leafR hf hk11
            exact tw_iret X hr (prj1 hf15) (prj2 hf15) dX6_back_124
          · clear q24
            refine tw_aload_n X dX6_back_90 rfl 2 rfl ?_
            refine tg_s X  dX6_back_91 ?_
            refine tw_bipush (v := 14) X dX6_back_94 rfl ?_
            refine tw_iload X dX6_back_96 0 rfl ?_
            refine tw_iadd X dX6_back_98 ?_
            obtain ⟨x16, hx16, hf⟩ := bnd hf
            refine ta_s X hx16 dX6_back_99 ?_
            refine tw_if_eq (tgt := 122) X dX6_back_100 rfl hf (fun q23 hf => ?_) (fun q23 hf => ?_)
            · clear q23
              refine tw_bipush (v := -4) X dX6_back_122 rfl ?_
              have hf17 := leafR hf hk11
              exact tw_iret X hr (prj1 hf17) (prj2 hf17) dX6_back_124
            · clear q23
              refine tw_aload_n X dX6_back_103 rfl 2 rfl ?_
              refine tg_s X  dX6_back_104 ?_
              refine tw_bipush (v := 14) X dX6_back_107 rfl ?_
              refine tw_aload_n X dX6_back_109 rfl 2 rfl ?_
              refine tw_iload_n X dX6_back_110 rfl 5 rfl ?_
              refine tw_iconst (v := 1) X dX6_back_111 rfl ?_
              obtain ⟨x18, hx18, hf⟩ := bnd hf
              refine tw_callVi (As := [.int x4, .int (1 : Int32)]) (st := [.int (14 : Int32), .ref (ad 0)]) X (tC_its hx18) tG_its tI_its ⟨Nat.le_of_ble_eq_true rfl, Nat.le_of_ble_eq_true rfl⟩ ⟨Nat.zero_le _, Nat.zero_le _⟩ 0 rfl rfl rfl rfl (Nat.le_of_ble_eq_true rfl) dX6_back_112 ?_
              refine tw_iadd X dX6_back_115 ?_
              obtain ⟨x19, hx19, hf⟩ := bnd hf
              refine ta_s X hx19 dX6_back_116 ?_
              refine tw_bipush (v := 99) X dX6_back_117 rfl ?_
              refine tw_icmp_ne (tgt := 125) X dX6_back_119 rfl hf (fun q22 hf => ?_) (fun q22 hf => ?_)
              · clear q22
                refine tw_bipush (v := -4) X dX6_back_122 rfl ?_
                have hf20 := leafR hf hk11
                exact tw_iret X hr (prj1 hf20) (prj2 hf20) dX6_back_124
              · clear q22
                refine tw_aload_n X dX6_back_125 rfl 2 rfl ?_
                refine tw_iload_n X dX6_back_126 rfl 4 rfl ?_
                refine tw_iload X dX6_back_127 0 rfl ?_
                refine tw_iconst (v := 0) X dX6_back_129 rfl ?_
                obtain ⟨g21, hg21, hf⟩ := bnd hf
                refine tw_callVv (As := [.int x3, .int x14, .int (0 : Int32)]) (st := []) X (tC_undoes hg21) tG_undoes tI_undoes ⟨Nat.le_of_ble_eq_true rfl, Nat.le_of_ble_eq_true rfl⟩ ⟨Nat.zero_le _, Nat.zero_le _⟩ 0 rfl rfl rfl rfl (Nat.le_of_ble_eq_true rfl) dX6_back_130 ?_
                refine tw_goto (tgt := 169) X dX6_back_133 rfl ?_
                refine tw_sub [2, 4] (lv' := [(0, .ref o), (2, .int x3)]) rfl ?_
                have hL := leafL hf hk11
                exact hL
        · clear q32
          refine tw_iload X dX6_back_136 0 rfl ?_
          refine tw_if_eq (tgt := 159) X dX6_back_138 rfl hf (fun q31 hf => ?_) (fun q31 hf => ?_)
          · clear q31
            refine tw_bipush (v := -4) X dX6_back_159 rfl ?_
            have hf25 := leafR hf hk11
            exact tw_iret X hr (prj1 hf25) (prj2 hf25) dX6_back_161
          · clear q31
            refine tw_aload_n X dX6_back_141 rfl 1 rfl ?_
            refine tw_iload X dX6_back_142 5 rfl ?_
            refine tw_iconst (v := 1) X dX6_back_144 rfl ?_
            obtain ⟨x26, hx26, hf⟩ := bnd hf
            refine tw_callVi (As := [.int x5, .int (1 : Int32)]) (st := []) X (tC_its hx26) tG_its tI_its ⟨Nat.le_of_ble_eq_true rfl, Nat.le_of_ble_eq_true rfl⟩ ⟨Nat.zero_le _, Nat.zero_le _⟩ 0 rfl rfl rfl rfl (Nat.le_of_ble_eq_true rfl) dX6_back_145 ?_
            refine tw_aload_n X dX6_back_148 rfl 1 rfl ?_
            refine tg_s X  dX6_back_149 ?_
            refine tw_iload_n X dX6_back_152 rfl 2 rfl ?_
            refine tw_iconst (v := 2) X dX6_back_153 rfl ?_
            refine tw_iadd X dX6_back_154 ?_
            obtain ⟨x27, hx27, hf⟩ := bnd hf
            refine ta_s X hx27 dX6_back_155 ?_
            refine tw_icmp_eq (tgt := 162) X dX6_back_156 rfl hf (fun q30 hf => ?_) (fun q30 hf => ?_)
            · clear q30
              refine tw_aload_n X dX6_back_162 rfl 1 rfl ?_
              refine tw_iload_n X dX6_back_163 rfl 4 rfl ?_
              refine tw_iload X dX6_back_164 5 rfl ?_
              obtain ⟨g28, hg28, hf⟩ := bnd hf
              refine tw_callVv (As := [.int x4, .int x5]) (st := []) X (tC_swaps hg28) tG_swaps tI_swaps ⟨Nat.le_of_ble_eq_true rfl, Nat.le_of_ble_eq_true rfl⟩ ⟨Nat.zero_le _, Nat.zero_le _⟩ 0 rfl rfl rfl rfl (Nat.le_of_ble_eq_true rfl) dX6_back_166 ?_
              refine tw_sub [1, 3] (lv' := [(0, .ref o), (2, .int x3)]) rfl ?_
              have hL := leafL hf hk11
              exact hL
            · clear q30
              refine tw_bipush (v := -4) X dX6_back_159 rfl ?_
              have hf29 := leafR hf hk11
              exact tw_iret X hr (prj1 hf29) (prj2 hf29) dX6_back_161
    · intro zz35 hf hk9
      refine tw_icmp_ne (tgt := 65) X dX6_back_58 rfl hf (fun q34 hf => ?_) (fun q34 hf => ?_)
      · clear q34
        refine tw_iconst (v := 1) X dX6_back_61 rfl ?_
        refine tw_goto (tgt := 66) X dX6_back_62 rfl ?_
        refine tw_sub [4, 3, 2, 1, 0] (lv' := [(0, .ref o), (1, .int (((70 : Int32) + ((3 : Int32) * x2)) - (3 : Int32))), (2, .int x3), (3, .int x4), (4, .int x5)]) rfl ?_
        have hL := hk9 _ hf
        exact hL
      · clear q34
        refine tw_iconst (v := 0) X dX6_back_65 rfl ?_
        refine tw_sub [4, 3, 2, 1, 0] (lv' := [(0, .ref o), (1, .int (((70 : Int32) + ((3 : Int32) * x2)) - (3 : Int32))), (2, .int x3), (3, .int x4), (4, .int x5)]) rfl ?_
        have hL := hk9 _ hf
        exact hL
noncomputable def tF_circles : Nat → St → Int32 → Int32 → Int32 → Option (St)
  | 0 => fun _ _ _ _ => none
  | d + 1 => fun g a1 a2 a3 => let rc := tF_circles d
  (rd (g 17) 6 (a1 - (1 : Int32))).bind fun x1 =>
  if a1 = a3 then
    (rd (g 17) 6 (0 : Int32)).bind fun x2 =>
    (tF_isLink g x1 x2).bind fun x3 =>
    if x3 = 0 then
      some g
    else
      Option.bind (α := St) (β := St)
        (iter (L := St × Int32) (T := St) (un2 fun s8a s8b => 
          if a3 ≤ s8b then
            some (.inr s8a)
          else
            if (s8a 0 18) = 0 then
              (rd (s8a 17) 6 s8b).bind fun x11 =>
              (wr s8a 18 6 s8b x11).bind fun g12 =>
              some (.inl (g12, (s8b + (1 : Int32))))
            else
              some (.inr s8a)) (g, (0 : Int32)))
        (fun j5 => (pf j5 0 18 ((j5 0 18) + (1 : Int32))).bind fun g7 =>
        some g7)
  else
    (rd (g 17) 6 (0 : Int32)).bind fun x19 =>
    iter (L := St × Int32) (T := St) (un2 fun s20a s20b => 
      (rd (s20a 1) 340 (0 : Int32)).bind fun x22 =>
      if x22 ≤ s20b then
        some (.inr s20a)
      else
        if ((a2 >>> (s20b &&& 31)) &&& (1 : Int32)) = 0 then
          (tF_isWhole s20a s20b).bind fun x24 =>
          if x24 = 0 then
            (tF_isLink s20a x1 s20b).bind fun x26 =>
            if x26 = 0 then
              some (.inl (s20a, (s20b + (1 : Int32))))
            else
              (wr s20a 17 6 a1 s20b).bind fun g28 =>
              (rc g28 (a1 + (1 : Int32)) (a2 ||| ((1 : Int32) <<< (s20b &&& 31))) a3).bind fun g29 =>
              some (.inl (g29, (s20b + (1 : Int32))))
          else
            some (.inl (s20a, (s20b + (1 : Int32))))
        else
          some (.inl (s20a, (s20b + (1 : Int32))))) (g, (x19 + (1 : Int32)))
set_option maxHeartbeats 4000000 in
theorem tC_circles {l : Launch} {D : va_G} {A : Nat → Prop} {o : Nat} {ad : Nat → Nat} {dI : ClassId} : ∀ (d : Nat) (g : St) (a1 : Int32) (a2 : Int32) (a3 : Int32) (z : St), tF_circles d g a1 a2 a3 = some z → Ct l yX6_circles cX6_circles 6 none (4 + 1 * d) (87 + 25 * d) D vwCl [(dI, .int)] A (tW o ad dI) [.ref o, .int a1, .int a2, .int a3] g (QV D vwCl A (tW o ad dI) z) := by
  intro d
  induction d with
  | zero =>
    intro g a1 a2 a3 z hf
    cases hf
  | succ d ih =>
    intro g a1 a2 a3 z hf
    rw [tF_circles] at hf
    generalize hrc : tF_circles d = rc at hf ih
    dsimp only at hf
    have hrec := ih
    generalize hF : (4 + 1 * d) = F at hrec
    generalize hLo : (87 + 25 * d) = Lo at hrec
    refine ct_intro (own := RX6) (lv0 := [(0, .ref o), (1, .int a1), (2, .int a2), (3, .int a3)]) (by decide) rfl (Nat.le_of_ble_eq_true rfl) rfl ?_
    intro p e s m args below meth c X hr
    refine tw_aload_n X dX6_circles_0 rfl 0 rfl ?_
    refine tg_circle X  dX6_circles_1 ?_
    refine tw_iload_n X dX6_circles_4 rfl 1 rfl ?_
    refine tw_iconst (v := 1) X dX6_circles_5 rfl ?_
    refine tw_isub X dX6_circles_6 ?_
    obtain ⟨x1, hx1, hf⟩ := bnd hf
    refine ta_circle X hx1 dX6_circles_7 ?_
    refine tw_istore (lv' := [(4, .int x1), (0, .ref o), (1, .int a1), (2, .int a2), (3, .int a3)]) X dX6_circles_8 (by decide) rfl ?_
    refine tw_iload_n X dX6_circles_10 rfl 2 rfl ?_
    refine tw_iload_n X dX6_circles_11 rfl 4 rfl ?_
    refine tw_icmp_ne (tgt := 77) X dX6_circles_12 rfl hf (fun q35 hf => ?_) (fun q35 hf => ?_)
    · clear q35
      refine tw_aload_n X dX6_circles_15 rfl 1 rfl ?_
      refine tw_iload X dX6_circles_16 0 rfl ?_
      refine tw_aload_n X dX6_circles_18 rfl 1 rfl ?_
      refine tg_circle X  dX6_circles_19 ?_
      refine tw_iconst (v := 0) X dX6_circles_22 rfl ?_
      obtain ⟨x2, hx2, hf⟩ := bnd hf
      refine ta_circle X hx2 dX6_circles_23 ?_
      obtain ⟨x3, hx3, hf⟩ := bnd hf
      refine tw_callVz (As := [.int x1, .int x2]) (st := []) X (tC_isLink hx3) tG_isLink tI_isLink (rom_le (by omega) (by omega)) ⟨Nat.zero_le _, Nat.zero_le _⟩ 0 rfl rfl rfl rfl (Nat.le_of_ble_eq_true rfl) dX6_circles_24 ?_
      intro hb4
      refine tw_if_eq (tgt := 76) X dX6_circles_27 rfl hf (fun q18 hf => ?_) (fun q18 hf => ?_)
      · clear q18
        exact tw_vret X hr (Option.some.inj hf) dX6_circles_76
      · clear q18
        refine tw_iconst (v := 0) X dX6_circles_30 rfl ?_
        refine tw_istore (lv' := [(5, .int (0 : Int32)), (4, .int x1), (0, .ref o), (1, .int a1), (2, .int a2), (3, .int a3)]) X dX6_circles_31 (by decide) rfl ?_
        refine bj_walk (P := fun j5 : St => TW p l e (rom (4 + 1 * (d + 1)) (87 + 25 * (d + 1))) s m args below meth c (MQ below (QV D vwCl A (tW o ad dI) z) args s 0 0 A) D vwCl A (tW o ad dI) 6 0 0 j5 66 [(0, .ref o)] []) hf ?_ ?_
        · intro j5 hf
          refine tw_aload_n X dX6_circles_66 rfl 0 rfl ?_
          refine tw_dup X dX6_circles_67 rfl ?_
          refine tg_ringMany X  dX6_circles_68 ?_
          refine tw_iconst (v := 1) X dX6_circles_71 rfl ?_
          refine tw_iadd X dX6_circles_72 ?_
          obtain ⟨g7, hg7, hf⟩ := bnd hf
          refine tp_ringMany X hg7 dX6_circles_73 ?_
          exact tw_vret X hr (Option.some.inj hf) dX6_circles_76
        · intro zz17 hf hk6
          refine tw_sub [2, 5, 0] (lv' := [(0, .ref o), (3, .int a3), (5, .int (0 : Int32))]) rfl ?_
          refine it_walk (P := un2 fun s8a s8b => TW p l e (rom (4 + 1 * (d + 1)) (87 + 25 * (d + 1))) s m args below meth c (MQ below (QV D vwCl A (tW o ad dI) z) args s 0 0 A) D vwCl A (tW o ad dI) 6 0 0 s8a 33 [(0, .ref o), (3, .int a3), (5, .int s8b)] []) hf ?_
          rintro ⟨s8a, s8b⟩ zz16 hf hl9
          dsimp only [un2] at hf ⊢
          refine tw_iload X dX6_circles_33 2 rfl ?_
          refine tw_iload_n X dX6_circles_35 rfl 1 rfl ?_
          refine tw_icmp_ge (tgt := 66) X dX6_circles_36 rfl hf (fun q15 hf => ?_) (fun q15 hf => ?_)
          · clear q15
            have hf10 := leafR hf hl9
            refine tw_sub [0] (lv' := [(0, .ref o)]) rfl ?_
            have hL := hk6 _ hf10
            exact hL
          · clear q15
            refine tw_aload_n X dX6_circles_39 rfl 0 rfl ?_
            refine tg_ringMany X  dX6_circles_40 ?_
            refine tw_if_ne (tgt := 66) X dX6_circles_43 rfl hf (fun q14 hf => ?_) (fun q14 hf => ?_)
            · clear q14
              refine tw_aload_n X dX6_circles_46 rfl 0 rfl ?_
              refine tg_firstCircle X  dX6_circles_47 ?_
              refine tw_iload X dX6_circles_50 2 rfl ?_
              refine tw_aload_n X dX6_circles_52 rfl 0 rfl ?_
              refine tg_circle X  dX6_circles_53 ?_
              refine tw_iload X dX6_circles_56 2 rfl ?_
              obtain ⟨x11, hx11, hf⟩ := bnd hf
              refine ta_circle X hx11 dX6_circles_58 ?_
              obtain ⟨g12, hg12, hf⟩ := bnd hf
              refine ts_firstCircle X hg12 dX6_circles_59 ?_
              refine tw_iinc (q := 2) (v := (s8b + (1 : Int32))) (lv' := [(5, .int (s8b + (1 : Int32))), (0, .ref o), (3, .int a3)]) X dX6_circles_60 rfl rfl (by decide) rfl ?_
              refine tw_goto (tgt := 33) X dX6_circles_63 rfl ?_
              refine tw_sub [1, 2, 0] (lv' := [(0, .ref o), (3, .int a3), (5, .int (s8b + (1 : Int32)))]) rfl ?_
              have hL := leafL hf hl9
              exact hL
            · clear q14
              have hf13 := leafR hf hl9
              refine tw_sub [0] (lv' := [(0, .ref o)]) rfl ?_
              have hL := hk6 _ hf13
              exact hL
    · clear q35
      refine tw_aload_n X dX6_circles_77 rfl 1 rfl ?_
      refine tg_circle X  dX6_circles_78 ?_
      refine tw_iconst (v := 0) X dX6_circles_81 rfl ?_
      obtain ⟨x19, hx19, hf⟩ := bnd hf
      refine ta_circle X hx19 dX6_circles_82 ?_
      refine tw_iconst (v := 1) X dX6_circles_83 rfl ?_
      refine tw_iadd X dX6_circles_84 ?_
      refine tw_istore (lv' := [(5, .int (x19 + (1 : Int32))), (4, .int x1), (0, .ref o), (1, .int a1), (2, .int a2), (3, .int a3)]) X dX6_circles_85 (by decide) rfl ?_
      refine tw_sub [2, 3, 4, 5, 1, 0] (lv' := [(0, .ref o), (1, .int a1), (2, .int a2), (3, .int a3), (4, .int x1), (5, .int (x19 + (1 : Int32)))]) rfl ?_
      refine it_walk (P := un2 fun s20a s20b => TW p l e (rom (4 + 1 * (d + 1)) (87 + 25 * (d + 1))) s m args below meth c (MQ below (QV D vwCl A (tW o ad dI) z) args s 0 0 A) D vwCl A (tW o ad dI) 6 0 0 s20a 87 [(0, .ref o), (1, .int a1), (2, .int a2), (3, .int a3), (4, .int x1), (5, .int s20b)] []) hf ?_
      rintro ⟨s20a, s20b⟩ zz34 hf hl21
      dsimp only [un2] at hf ⊢
      refine tw_iload X dX6_circles_87 5 rfl ?_
      refine tw_aload_n X dX6_circles_89 rfl 0 rfl ?_
      refine tg_s X  dX6_circles_90 ?_
      refine tw_iconst (v := 0) X dX6_circles_93 rfl ?_
      obtain ⟨x22, hx22, hf⟩ := bnd hf
      refine ta_s X hx22 dX6_circles_94 ?_
      refine tw_icmp_ge (tgt := 155) X dX6_circles_95 rfl hf (fun q33 hf => ?_) (fun q33 hf => ?_)
      · clear q33
        have hf23 := leafR hf hl21
        exact tw_vret X hr (Option.some.inj hf23) dX6_circles_155
      · clear q33
        refine tw_iload_n X dX6_circles_98 rfl 2 rfl ?_
        refine tw_iload X dX6_circles_99 5 rfl ?_
        refine tw_ishr X dX6_circles_101 ?_
        refine tw_iconst (v := 1) X dX6_circles_102 rfl ?_
        refine tw_iand X dX6_circles_103 ?_
        refine tw_if_ne (tgt := 149) X dX6_circles_104 rfl hf (fun q32 hf => ?_) (fun q32 hf => ?_)
        · clear q32
          refine tw_aload_n X dX6_circles_107 rfl 0 rfl ?_
          refine tw_iload X dX6_circles_108 5 rfl ?_
          obtain ⟨x24, hx24, hf⟩ := bnd hf
          refine tw_callVz (As := [.int s20b]) (st := []) X (tC_isWhole hx24) tG_isWhole tI_isWhole (rom_le (by omega) (by omega)) ⟨Nat.zero_le _, Nat.zero_le _⟩ 0 rfl rfl rfl rfl (Nat.le_of_ble_eq_true rfl) dX6_circles_110 ?_
          intro hb25
          refine tw_if_ne (tgt := 149) X dX6_circles_113 rfl hf (fun q31 hf => ?_) (fun q31 hf => ?_)
          · clear q31
            refine tw_aload_n X dX6_circles_116 rfl 0 rfl ?_
            refine tw_iload X dX6_circles_117 4 rfl ?_
            refine tw_iload X dX6_circles_119 5 rfl ?_
            obtain ⟨x26, hx26, hf⟩ := bnd hf
            refine tw_callVz (As := [.int x1, .int s20b]) (st := []) X (tC_isLink hx26) tG_isLink tI_isLink (rom_le (by omega) (by omega)) ⟨Nat.zero_le _, Nat.zero_le _⟩ 0 rfl rfl rfl rfl (Nat.le_of_ble_eq_true rfl) dX6_circles_121 ?_
            intro hb27
            refine tw_if_eq (tgt := 149) X dX6_circles_124 rfl hf (fun q30 hf => ?_) (fun q30 hf => ?_)
            · clear q30
              refine tw_iinc (q := 5) (v := (s20b + (1 : Int32))) (lv' := [(5, .int (s20b + (1 : Int32))), (0, .ref o), (1, .int a1), (2, .int a2), (3, .int a3), (4, .int x1)]) X dX6_circles_149 rfl rfl (by decide) rfl ?_
              refine tw_goto (tgt := 87) X dX6_circles_152 rfl ?_
              refine tw_sub [1, 2, 3, 4, 5, 0] (lv' := [(0, .ref o), (1, .int a1), (2, .int a2), (3, .int a3), (4, .int x1), (5, .int (s20b + (1 : Int32)))]) rfl ?_
              have hL := leafL hf hl21
              exact hL
            · clear q30
              refine tw_aload_n X dX6_circles_127 rfl 0 rfl ?_
              refine tg_circle X  dX6_circles_128 ?_
              refine tw_iload_n X dX6_circles_131 rfl 1 rfl ?_
              refine tw_iload X dX6_circles_132 5 rfl ?_
              obtain ⟨g28, hg28, hf⟩ := bnd hf
              refine ts_circle X hg28 dX6_circles_134 ?_
              refine tw_aload_n X dX6_circles_135 rfl 0 rfl ?_
              refine tw_iload_n X dX6_circles_136 rfl 1 rfl ?_
              refine tw_iconst (v := 1) X dX6_circles_137 rfl ?_
              refine tw_iadd X dX6_circles_138 ?_
              refine tw_iload_n X dX6_circles_139 rfl 2 rfl ?_
              refine tw_iconst (v := 1) X dX6_circles_140 rfl ?_
              refine tw_iload X dX6_circles_141 5 rfl ?_
              refine tw_ishl X dX6_circles_143 ?_
              refine tw_ior X dX6_circles_144 ?_
              refine tw_iload_n X dX6_circles_145 rfl 3 rfl ?_
              obtain ⟨g29, hg29, hf⟩ := bnd hf
              refine tw_callVv (As := [.int (a1 + (1 : Int32)), .int (a2 ||| ((1 : Int32) <<< (s20b &&& 31))), .int a3]) (st := []) X (hrec _ _ _ _ _ hg29) tG_circles tI_circles (rom_le (by omega) (by omega)) ⟨Nat.zero_le _, Nat.zero_le _⟩ 0 rfl rfl rfl rfl (Nat.le_of_ble_eq_true rfl) dX6_circles_146 ?_
              refine tw_iinc (q := 5) (v := (s20b + (1 : Int32))) (lv' := [(5, .int (s20b + (1 : Int32))), (0, .ref o), (1, .int a1), (2, .int a2), (3, .int a3), (4, .int x1)]) X dX6_circles_149 rfl rfl (by decide) rfl ?_
              refine tw_goto (tgt := 87) X dX6_circles_152 rfl ?_
              refine tw_sub [1, 2, 3, 4, 5, 0] (lv' := [(0, .ref o), (1, .int a1), (2, .int a2), (3, .int a3), (4, .int x1), (5, .int (s20b + (1 : Int32)))]) rfl ?_
              have hL := leafL hf hl21
              exact hL
          · clear q31
            refine tw_iinc (q := 5) (v := (s20b + (1 : Int32))) (lv' := [(5, .int (s20b + (1 : Int32))), (0, .ref o), (1, .int a1), (2, .int a2), (3, .int a3), (4, .int x1)]) X dX6_circles_149 rfl rfl (by decide) rfl ?_
            refine tw_goto (tgt := 87) X dX6_circles_152 rfl ?_
            refine tw_sub [1, 2, 3, 4, 5, 0] (lv' := [(0, .ref o), (1, .int a1), (2, .int a2), (3, .int a3), (4, .int x1), (5, .int (s20b + (1 : Int32)))]) rfl ?_
            have hL := leafL hf hl21
            exact hL
        · clear q32
          refine tw_iinc (q := 5) (v := (s20b + (1 : Int32))) (lv' := [(5, .int (s20b + (1 : Int32))), (0, .ref o), (1, .int a1), (2, .int a2), (3, .int a3), (4, .int x1)]) X dX6_circles_149 rfl rfl (by decide) rfl ?_
          refine tw_goto (tgt := 87) X dX6_circles_152 rfl ?_
          refine tw_sub [1, 2, 3, 4, 5, 0] (lv' := [(0, .ref o), (1, .int a1), (2, .int a2), (3, .int a3), (4, .int x1), (5, .int (s20b + (1 : Int32)))]) rfl ?_
          have hL := leafL hf hl21
          exact hL
noncomputable def tF_comes (g : St) (a1 : Int32) (a2 : Int32) : Option (Int32 × St) :=
  (tF_isBarter g a1 a2).bind fun x1 =>
  if x1 = 0 then
    some ((-1 : Int32), g)
  else
    (pf g 0 19 (0 : Int32)).bind fun g3 =>
    (tF_barters 6 g3 a1 a2).bind fun g4 =>
    some ((g4 0 19), g4)
set_option maxHeartbeats 4000000 in
theorem tC_comes {l : Launch} {D : va_G} {A : Nat → Prop} {o : Nat} {ad : Nat → Nat} {dI : ClassId} {g : St} {a1 : Int32} {a2 : Int32} {z : Int32 × St} (hf : tF_comes g a1 a2 = some z) : Ct l yX6_comes cX6_comes 3 (some .int) 10 241 D vwCl [(dI, .int)] A (tW o ad dI) [.ref o, .int a1, .int a2] g (QI D vwCl A (tW o ad dI) z.1 z.2) := by
  unfold tF_comes at hf
  refine ct_intro (own := RX6) (lv0 := [(0, .ref o), (1, .int a1), (2, .int a2)]) (by decide) rfl (Nat.le_of_ble_eq_true rfl) rfl ?_
  intro p e s m args below meth c X hr
  refine tw_aload_n X dX6_comes_0 rfl 0 rfl ?_
  refine tw_iload_n X dX6_comes_1 rfl 1 rfl ?_
  refine tw_iload_n X dX6_comes_2 rfl 2 rfl ?_
  obtain ⟨x1, hx1, hf⟩ := bnd hf
  refine tw_callVz (As := [.int a1, .int a2]) (st := []) X (tC_isBarter hx1) tG_isBarter tI_isBarter ⟨Nat.le_of_ble_eq_true rfl, Nat.le_of_ble_eq_true rfl⟩ ⟨Nat.zero_le _, Nat.zero_le _⟩ 0 rfl rfl rfl rfl (Nat.le_of_ble_eq_true rfl) dX6_comes_3 ?_
  intro hb2
  refine tw_if_ne (tgt := 11) X dX6_comes_6 rfl hf (fun q5 hf => ?_) (fun q5 hf => ?_)
  · clear q5
    refine tw_iconst (v := -1) X dX6_comes_9 rfl ?_
    exact tw_iret X hr (prj1 hf) (prj2 hf) dX6_comes_10
  · clear q5
    refine tw_aload_n X dX6_comes_11 rfl 0 rfl ?_
    refine tw_iconst (v := 0) X dX6_comes_12 rfl ?_
    obtain ⟨g3, hg3, hf⟩ := bnd hf
    refine tp_comesTo X hg3 dX6_comes_13 ?_
    refine tw_aload_n X dX6_comes_16 rfl 0 rfl ?_
    refine tw_iload_n X dX6_comes_17 rfl 1 rfl ?_
    refine tw_iload_n X dX6_comes_18 rfl 2 rfl ?_
    obtain ⟨g4, hg4, hf⟩ := bnd hf
    refine tw_callVv (As := [.int a1, .int a2]) (st := []) X (tC_barters 6 _ _ _ _ hg4) tG_barters tI_barters ⟨Nat.le_of_ble_eq_true rfl, Nat.le_of_ble_eq_true rfl⟩ ⟨Nat.zero_le _, Nat.zero_le _⟩ 0 rfl rfl rfl rfl (Nat.le_of_ble_eq_true rfl) dX6_comes_19 ?_
    refine tw_aload_n X dX6_comes_22 rfl 0 rfl ?_
    refine tg_comesTo X  dX6_comes_23 ?_
    exact tw_iret X hr (prj1 hf) (prj2 hf) dX6_comes_26
noncomputable def tF_findFits (g : St) (a1 : Int32) : Option (St) :=
  (pf g 0 20 (0 : Int32)).bind fun g1 =>
  iter (L := St × Int32) (T := St) (un2 fun s2a s2b => 
    if (4 : Int32) ≤ s2b then
      some (.inr s2a)
    else
      iter (L := St × Int32) (T := ((St × Int32) ⊕ (St))) (un2 fun s5a s5b => 
        if (50 : Int32) < s5b then
          some (.inr (.inl (s5a, (s2b + (1 : Int32)))))
        else
          (tF_isFit s5a s2b s5b a1).bind fun x8 =>
          if x8 = 0 then
            some (.inl (s5a, (s5b + (1 : Int32))))
          else
            Option.bind (α := Int32) (β := ((St × Int32) ⊕ (((St × Int32) ⊕ (St)))))
              (if (s5a 0 20) = 0 then
                some s2b
              else
                some (s5a 0 21))
              (fun j10 => (pf s5a 0 21 j10).bind fun g12 =>
              Option.bind (α := Int32) (β := ((St × Int32) ⊕ (((St × Int32) ⊕ (St)))))
                (if (g12 0 20) = 0 then
                  some s5b
                else
                  some (g12 0 22))
                (fun j13 => (pf g12 0 22 j13).bind fun g15 =>
                (pf g15 0 20 ((g15 0 20) + (1 : Int32))).bind fun g16 =>
                some (.inl (g16, (s5b + (1 : Int32))))))) (s2a, (0 : Int32))) (g1, (0 : Int32))
set_option maxHeartbeats 4000000 in
theorem tC_findFits {l : Launch} {D : va_G} {A : Nat → Prop} {o : Nat} {ad : Nat → Nat} {dI : ClassId} {g : St} {a1 : Int32} {z : St} (hf : tF_findFits g a1 = some z) : Ct l yX6_findFits cX6_findFits 4 none 2 45 D vwCl [(dI, .int)] A (tW o ad dI) [.ref o, .int a1] g (QV D vwCl A (tW o ad dI) z) := by
  unfold tF_findFits at hf
  refine ct_intro (own := RX6) (lv0 := [(0, .ref o), (1, .int a1)]) (by decide) rfl (Nat.le_of_ble_eq_true rfl) rfl ?_
  intro p e s m args below meth c X hr
  refine tw_aload_n X dX6_findFits_0 rfl 0 rfl ?_
  refine tw_iconst (v := 0) X dX6_findFits_1 rfl ?_
  obtain ⟨g1, hg1, hf⟩ := bnd hf
  refine tp_fitMany X hg1 dX6_findFits_2 ?_
  refine tw_iconst (v := 0) X dX6_findFits_5 rfl ?_
  refine tw_istore_n (lv' := [(2, .int (0 : Int32)), (0, .ref o), (1, .int a1)]) X dX6_findFits_6 rfl (by decide) rfl ?_
  refine tw_sub [1, 2, 0] (lv' := [(0, .ref o), (1, .int a1), (2, .int (0 : Int32))]) rfl ?_
  refine it_walk (P := un2 fun s2a s2b => TW p l e (rom 2 45) s m args below meth c (MQ below (QV D vwCl A (tW o ad dI) z) args s 0 0 A) D vwCl A (tW o ad dI) 4 0 0 s2a 7 [(0, .ref o), (1, .int a1), (2, .int s2b)] []) hf ?_
  rintro ⟨s2a, s2b⟩ zz25 hf hl3
  dsimp only [un2] at hf ⊢
  refine tw_iload_n X dX6_findFits_7 rfl 2 rfl ?_
  refine tw_iconst (v := 4) X dX6_findFits_8 rfl ?_
  refine tw_icmp_ge (tgt := 90) X dX6_findFits_9 rfl hf (fun q24 hf => ?_) (fun q24 hf => ?_)
  · clear q24
    have hf4 := leafR hf hl3
    exact tw_vret X hr (Option.some.inj hf4) dX6_findFits_90
  · clear q24
    refine tw_iconst (v := 0) X dX6_findFits_12 rfl ?_
    refine tw_istore_n (lv' := [(3, .int (0 : Int32)), (0, .ref o), (1, .int a1), (2, .int s2b)]) X dX6_findFits_13 rfl (by decide) rfl ?_
    refine tw_sub [1, 2, 3, 0] (lv' := [(0, .ref o), (1, .int a1), (2, .int s2b), (3, .int (0 : Int32))]) rfl ?_
    refine it_walk (P := un2 fun s5a s5b => TW p l e (rom 2 45) s m args below meth c (MQ below (QV D vwCl A (tW o ad dI) z) args s 0 0 A) D vwCl A (tW o ad dI) 4 0 0 s5a 14 [(0, .ref o), (1, .int a1), (2, .int s2b), (3, .int s5b)] []) hf ?_
    rintro ⟨s5a, s5b⟩ zz23 hf hl6
    dsimp only [un2] at hf ⊢
    refine tw_iload_n X dX6_findFits_14 rfl 3 rfl ?_
    refine tw_bipush (v := 50) X dX6_findFits_15 rfl ?_
    refine tw_icmp_gt (tgt := 84) X dX6_findFits_17 rfl hf (fun q22 hf => ?_) (fun q22 hf => ?_)
    · clear q22
      refine tw_iinc (q := 2) (v := (s2b + (1 : Int32))) (lv' := [(2, .int (s2b + (1 : Int32))), (0, .ref o), (1, .int a1), (3, .int s5b)]) X dX6_findFits_84 rfl rfl (by decide) rfl ?_
      refine tw_goto (tgt := 7) X dX6_findFits_87 rfl ?_
      have hf7 := leafR hf hl6
      refine tw_sub [1, 2, 0] (lv' := [(0, .ref o), (1, .int a1), (2, .int (s2b + (1 : Int32)))]) rfl ?_
      have hL := leafL hf7 hl3
      exact hL
    · clear q22
      refine tw_aload_n X dX6_findFits_20 rfl 0 rfl ?_
      refine tw_iload_n X dX6_findFits_21 rfl 2 rfl ?_
      refine tw_iload_n X dX6_findFits_22 rfl 3 rfl ?_
      refine tw_iload_n X dX6_findFits_23 rfl 1 rfl ?_
      obtain ⟨x8, hx8, hf⟩ := bnd hf
      refine tw_callVz (As := [.int s2b, .int s5b, .int a1]) (st := []) X (tC_isFit hx8) tG_isFit tI_isFit ⟨Nat.le_of_ble_eq_true rfl, Nat.le_of_ble_eq_true rfl⟩ ⟨Nat.zero_le _, Nat.zero_le _⟩ 0 rfl rfl rfl rfl (Nat.le_of_ble_eq_true rfl) dX6_findFits_24 ?_
      intro hb9
      refine tw_if_eq (tgt := 78) X dX6_findFits_27 rfl hf (fun q21 hf => ?_) (fun q21 hf => ?_)
      · clear q21
        refine tw_iinc (q := 3) (v := (s5b + (1 : Int32))) (lv' := [(3, .int (s5b + (1 : Int32))), (0, .ref o), (1, .int a1), (2, .int s2b)]) X dX6_findFits_78 rfl rfl (by decide) rfl ?_
        refine tw_goto (tgt := 14) X dX6_findFits_81 rfl ?_
        refine tw_sub [1, 2, 3, 0] (lv' := [(0, .ref o), (1, .int a1), (2, .int s2b), (3, .int (s5b + (1 : Int32)))]) rfl ?_
        have hL := leafL hf hl6
        exact hL
      · clear q21
        refine tw_aload_n X dX6_findFits_30 rfl 0 rfl ?_
        refine tw_aload_n X dX6_findFits_31 rfl 0 rfl ?_
        refine tg_fitMany X  dX6_findFits_32 ?_
        refine bj_walk (P := fun j10 : Int32 => TW p l e (rom 2 45) s m args below meth c (MQ below (QV D vwCl A (tW o ad dI) z) args s 0 0 A) D vwCl A (tW o ad dI) 4 0 0 s5a 46 [(0, .ref o), (1, .int a1), (2, .int s2b), (3, .int s5b)] [.int j10, .ref o]) hf ?_ ?_
        · intro j10 hf
          obtain ⟨g12, hg12, hf⟩ := bnd hf
          refine tp_fitTimes X hg12 dX6_findFits_46 ?_
          refine tw_aload_n X dX6_findFits_49 rfl 0 rfl ?_
          refine tw_aload_n X dX6_findFits_50 rfl 0 rfl ?_
          refine tg_fitMany X  dX6_findFits_51 ?_
          refine bj_walk (P := fun j13 : Int32 => TW p l e (rom 2 45) s m args below meth c (MQ below (QV D vwCl A (tW o ad dI) z) args s 0 0 A) D vwCl A (tW o ad dI) 4 0 0 g12 65 [(0, .ref o), (1, .int a1), (2, .int s2b), (3, .int s5b)] [.int j13, .ref o]) hf ?_ ?_
          · intro j13 hf
            obtain ⟨g15, hg15, hf⟩ := bnd hf
            refine tp_fitFee X hg15 dX6_findFits_65 ?_
            refine tw_aload_n X dX6_findFits_68 rfl 0 rfl ?_
            refine tw_dup X dX6_findFits_69 rfl ?_
            refine tg_fitMany X  dX6_findFits_70 ?_
            refine tw_iconst (v := 1) X dX6_findFits_73 rfl ?_
            refine tw_iadd X dX6_findFits_74 ?_
            obtain ⟨g16, hg16, hf⟩ := bnd hf
            refine tp_fitMany X hg16 dX6_findFits_75 ?_
            refine tw_iinc (q := 3) (v := (s5b + (1 : Int32))) (lv' := [(3, .int (s5b + (1 : Int32))), (0, .ref o), (1, .int a1), (2, .int s2b)]) X dX6_findFits_78 rfl rfl (by decide) rfl ?_
            refine tw_goto (tgt := 14) X dX6_findFits_81 rfl ?_
            refine tw_sub [1, 2, 3, 0] (lv' := [(0, .ref o), (1, .int a1), (2, .int s2b), (3, .int (s5b + (1 : Int32)))]) rfl ?_
            have hL := leafL hf hl6
            exact hL
          · intro zz18 hf hk14
            refine tw_if_ne (tgt := 61) X dX6_findFits_54 rfl hf (fun q17 hf => ?_) (fun q17 hf => ?_)
            · clear q17
              refine tw_iload_n X dX6_findFits_57 rfl 3 rfl ?_
              refine tw_goto (tgt := 65) X dX6_findFits_58 rfl ?_
              have hL := hk14 _ hf
              exact hL
            · clear q17
              refine tw_aload_n X dX6_findFits_61 rfl 0 rfl ?_
              refine tg_fitFee X  dX6_findFits_62 ?_
              have hL := hk14 _ hf
              exact hL
        · intro zz20 hf hk11
          refine tw_if_ne (tgt := 42) X dX6_findFits_35 rfl hf (fun q19 hf => ?_) (fun q19 hf => ?_)
          · clear q19
            refine tw_iload_n X dX6_findFits_38 rfl 2 rfl ?_
            refine tw_goto (tgt := 46) X dX6_findFits_39 rfl ?_
            have hL := hk11 _ hf
            exact hL
          · clear q19
            refine tw_aload_n X dX6_findFits_42 rfl 0 rfl ?_
            refine tg_fitTimes X  dX6_findFits_43 ?_
            have hL := hk11 _ hf
            exact hL
noncomputable def tF_liar (g : St) : Option (Int32 × St) :=
  (tF_findFits g (-1 : Int32)).bind fun g1 =>
  if (g1 0 20) = 0 then
    iter (L := St × Int32) (T := Int32 × St) (un2 fun s2a s2b => 
      (rd (s2a 1) 340 (3 : Int32)).bind fun x4 =>
      if x4 ≤ s2b then
        some (.inr ((-3 : Int32), s2a))
      else
        if (1 : Int32) = 0 then
          some (.inr ((-3 : Int32), s2a))
        else
          (tF_findFits s2a s2b).bind fun g7 =>
          if (g7 0 20) ≤ 0 then
            some (.inl (g7, (s2b + (1 : Int32))))
          else
            some (.inr (s2b, g7))) (g1, (0 : Int32))
  else
    iter (L := St × Int32) (T := Int32 × St) (un2 fun s13a s13b => 
      (rd (s13a 1) 340 (3 : Int32)).bind fun x15 =>
      if x15 ≤ s13b then
        some (.inr ((-3 : Int32), s13a))
      else
        if (0 : Int32) = 0 then
          some (.inr ((-3 : Int32), s13a))
        else
          (tF_findFits s13a s13b).bind fun g18 =>
          if (g18 0 20) ≤ 0 then
            some (.inl (g18, (s13b + (1 : Int32))))
          else
            some (.inr (s13b, g18))) (g1, (0 : Int32))
set_option maxHeartbeats 4000000 in
theorem tC_liar {l : Launch} {D : va_G} {A : Nat → Prop} {o : Nat} {ad : Nat → Nat} {dI : ClassId} {g : St} {z : Int32 × St} (hf : tF_liar g = some z) : Ct l yX6_liar cX6_liar 3 (some .int) 3 68 D vwCl [(dI, .int)] A (tW o ad dI) [.ref o] g (QI D vwCl A (tW o ad dI) z.1 z.2) := by
  unfold tF_liar at hf
  refine ct_intro (own := RX6) (lv0 := [(0, .ref o)]) (by decide) rfl (Nat.le_of_ble_eq_true rfl) rfl ?_
  intro p e s m args below meth c X hr
  refine tw_aload_n X dX6_liar_0 rfl 0 rfl ?_
  refine tw_iconst (v := -1) X dX6_liar_1 rfl ?_
  obtain ⟨g1, hg1, hf⟩ := bnd hf
  refine tw_callVv (As := [.int (-1 : Int32)]) (st := []) X (tC_findFits hg1) tG_findFits tI_findFits ⟨Nat.le_of_ble_eq_true rfl, Nat.le_of_ble_eq_true rfl⟩ ⟨Nat.zero_le _, Nat.zero_le _⟩ 0 rfl rfl rfl rfl (Nat.le_of_ble_eq_true rfl) dX6_liar_2 ?_
  refine tw_aload_n X dX6_liar_5 rfl 0 rfl ?_
  refine tg_fitMany X  dX6_liar_6 ?_
  refine tw_if_ne (tgt := 16) X dX6_liar_9 rfl hf (fun q24 hf => ?_) (fun q24 hf => ?_)
  · clear q24
    refine tw_iconst (v := 1) X dX6_liar_12 rfl ?_
    refine tw_goto (tgt := 17) X dX6_liar_13 rfl ?_
    refine tw_istore_n (lv' := [(1, .int (1 : Int32)), (0, .ref o)]) X dX6_liar_17 rfl (by decide) rfl ?_
    refine tw_iconst (v := 0) X dX6_liar_18 rfl ?_
    refine tw_istore_n (lv' := [(2, .int (0 : Int32)), (1, .int (1 : Int32)), (0, .ref o)]) X dX6_liar_19 rfl (by decide) rfl ?_
    refine tw_sub [2, 1, 0] (lv' := [(0, .ref o), (1, .int (1 : Int32)), (2, .int (0 : Int32))]) rfl ?_
    refine it_walk (P := un2 fun s2a s2b => TW p l e (rom 3 68) s m args below meth c (MQ below (QI D vwCl A (tW o ad dI) z.1 z.2) args s 0 0 A) D vwCl A (tW o ad dI) 3 0 0 s2a 20 [(0, .ref o), (1, .int (1 : Int32)), (2, .int s2b)] []) hf ?_
    rintro ⟨s2a, s2b⟩ zz12 hf hl3
    dsimp only [un2] at hf ⊢
    refine tw_iload_n X dX6_liar_20 rfl 2 rfl ?_
    refine tw_aload_n X dX6_liar_21 rfl 0 rfl ?_
    refine tg_s X  dX6_liar_22 ?_
    refine tw_iconst (v := 3) X dX6_liar_25 rfl ?_
    obtain ⟨x4, hx4, hf⟩ := bnd hf
    refine ta_s X hx4 dX6_liar_26 ?_
    refine tw_icmp_ge (tgt := 54) X dX6_liar_27 rfl hf (fun q11 hf => ?_) (fun q11 hf => ?_)
    · clear q11
      refine tw_bipush (v := -3) X dX6_liar_54 rfl ?_
      have hf5 := leafR hf hl3
      exact tw_iret X hr (prj1 hf5) (prj2 hf5) dX6_liar_56
    · clear q11
      refine tw_iload_n X dX6_liar_30 rfl 1 rfl ?_
      refine tw_if_eq (tgt := 54) X dX6_liar_31 rfl hf (fun q10 hf => ?_) (fun q10 hf => ?_)
      · clear q10
        refine tw_bipush (v := -3) X dX6_liar_54 rfl ?_
        have hf6 := leafR hf hl3
        exact tw_iret X hr (prj1 hf6) (prj2 hf6) dX6_liar_56
      · clear q10
        refine tw_aload_n X dX6_liar_34 rfl 0 rfl ?_
        refine tw_iload_n X dX6_liar_35 rfl 2 rfl ?_
        obtain ⟨g7, hg7, hf⟩ := bnd hf
        refine tw_callVv (As := [.int s2b]) (st := []) X (tC_findFits hg7) tG_findFits tI_findFits ⟨Nat.le_of_ble_eq_true rfl, Nat.le_of_ble_eq_true rfl⟩ ⟨Nat.zero_le _, Nat.zero_le _⟩ 0 rfl rfl rfl rfl (Nat.le_of_ble_eq_true rfl) dX6_liar_36 ?_
        refine tw_aload_n X dX6_liar_39 rfl 0 rfl ?_
        refine tg_fitMany X  dX6_liar_40 ?_
        refine tw_if_le (tgt := 48) X dX6_liar_43 rfl hf (fun q9 hf => ?_) (fun q9 hf => ?_)
        · clear q9
          refine tw_iinc (q := 2) (v := (s2b + (1 : Int32))) (lv' := [(2, .int (s2b + (1 : Int32))), (0, .ref o), (1, .int (1 : Int32))]) X dX6_liar_48 rfl rfl (by decide) rfl ?_
          refine tw_goto (tgt := 20) X dX6_liar_51 rfl ?_
          refine tw_sub [1, 2, 0] (lv' := [(0, .ref o), (1, .int (1 : Int32)), (2, .int (s2b + (1 : Int32)))]) rfl ?_
          have hL := leafL hf hl3
          exact hL
        · clear q9
          refine tw_iload_n X dX6_liar_46 rfl 2 rfl ?_
          have hf8 := leafR hf hl3
          exact tw_iret X hr (prj1 hf8) (prj2 hf8) dX6_liar_47
  · clear q24
    refine tw_iconst (v := 0) X dX6_liar_16 rfl ?_
    refine tw_istore_n (lv' := [(1, .int (0 : Int32)), (0, .ref o)]) X dX6_liar_17 rfl (by decide) rfl ?_
    refine tw_iconst (v := 0) X dX6_liar_18 rfl ?_
    refine tw_istore_n (lv' := [(2, .int (0 : Int32)), (1, .int (0 : Int32)), (0, .ref o)]) X dX6_liar_19 rfl (by decide) rfl ?_
    refine tw_sub [2, 1, 0] (lv' := [(0, .ref o), (1, .int (0 : Int32)), (2, .int (0 : Int32))]) rfl ?_
    refine it_walk (P := un2 fun s13a s13b => TW p l e (rom 3 68) s m args below meth c (MQ below (QI D vwCl A (tW o ad dI) z.1 z.2) args s 0 0 A) D vwCl A (tW o ad dI) 3 0 0 s13a 20 [(0, .ref o), (1, .int (0 : Int32)), (2, .int s13b)] []) hf ?_
    rintro ⟨s13a, s13b⟩ zz23 hf hl14
    dsimp only [un2] at hf ⊢
    refine tw_iload_n X dX6_liar_20 rfl 2 rfl ?_
    refine tw_aload_n X dX6_liar_21 rfl 0 rfl ?_
    refine tg_s X  dX6_liar_22 ?_
    refine tw_iconst (v := 3) X dX6_liar_25 rfl ?_
    obtain ⟨x15, hx15, hf⟩ := bnd hf
    refine ta_s X hx15 dX6_liar_26 ?_
    refine tw_icmp_ge (tgt := 54) X dX6_liar_27 rfl hf (fun q22 hf => ?_) (fun q22 hf => ?_)
    · clear q22
      refine tw_bipush (v := -3) X dX6_liar_54 rfl ?_
      have hf16 := leafR hf hl14
      exact tw_iret X hr (prj1 hf16) (prj2 hf16) dX6_liar_56
    · clear q22
      refine tw_iload_n X dX6_liar_30 rfl 1 rfl ?_
      refine tw_if_eq (tgt := 54) X dX6_liar_31 rfl hf (fun q21 hf => ?_) (fun q21 hf => ?_)
      · clear q21
        refine tw_bipush (v := -3) X dX6_liar_54 rfl ?_
        have hf17 := leafR hf hl14
        exact tw_iret X hr (prj1 hf17) (prj2 hf17) dX6_liar_56
      · clear q21
        refine tw_aload_n X dX6_liar_34 rfl 0 rfl ?_
        refine tw_iload_n X dX6_liar_35 rfl 2 rfl ?_
        obtain ⟨g18, hg18, hf⟩ := bnd hf
        refine tw_callVv (As := [.int s13b]) (st := []) X (tC_findFits hg18) tG_findFits tI_findFits ⟨Nat.le_of_ble_eq_true rfl, Nat.le_of_ble_eq_true rfl⟩ ⟨Nat.zero_le _, Nat.zero_le _⟩ 0 rfl rfl rfl rfl (Nat.le_of_ble_eq_true rfl) dX6_liar_36 ?_
        refine tw_aload_n X dX6_liar_39 rfl 0 rfl ?_
        refine tg_fitMany X  dX6_liar_40 ?_
        refine tw_if_le (tgt := 48) X dX6_liar_43 rfl hf (fun q20 hf => ?_) (fun q20 hf => ?_)
        · clear q20
          refine tw_iinc (q := 2) (v := (s13b + (1 : Int32))) (lv' := [(2, .int (s13b + (1 : Int32))), (0, .ref o), (1, .int (0 : Int32))]) X dX6_liar_48 rfl rfl (by decide) rfl ?_
          refine tw_goto (tgt := 20) X dX6_liar_51 rfl ?_
          refine tw_sub [1, 2, 0] (lv' := [(0, .ref o), (1, .int (0 : Int32)), (2, .int (s13b + (1 : Int32)))]) rfl ?_
          have hL := leafL hf hl14
          exact hL
        · clear q20
          refine tw_iload_n X dX6_liar_46 rfl 2 rfl ?_
          have hf19 := leafR hf hl14
          exact tw_iret X hr (prj1 hf19) (prj2 hf19) dX6_liar_47
noncomputable def tF_row (g : St) (a1 : Int32) (a2 : Int32) : Option (Int32) :=
  (tF_isRow g a1 a2).bind fun x1 =>
  if x1 = 0 then
    some (-9 : Int32)
  else
    (rd (g 24) 18 (((3 : Int32) * a1) + a2)).bind fun x3 =>
    some x3
set_option maxHeartbeats 4000000 in
theorem tC_row {l : Launch} {D : va_G} {A : Nat → Prop} {o : Nat} {ad : Nat → Nat} {dI : ClassId} {g : St} {a1 : Int32} {a2 : Int32} {z : Int32} (hf : tF_row g a1 a2 = some z) : Ct l yX6_row cX6_row 3 (some .int) 2 47 D vwCl [(dI, .int)] A (tW o ad dI) [.ref o, .int a1, .int a2] g (QI D vwCl A (tW o ad dI) z g) := by
  unfold tF_row at hf
  refine ct_intro (own := RX6) (lv0 := [(0, .ref o), (1, .int a1), (2, .int a2)]) (by decide) rfl (Nat.le_of_ble_eq_true rfl) rfl ?_
  intro p e s m args below meth c X hr
  refine tw_aload_n X dX6_row_0 rfl 0 rfl ?_
  refine tw_iload_n X dX6_row_1 rfl 1 rfl ?_
  refine tw_iload_n X dX6_row_2 rfl 2 rfl ?_
  obtain ⟨x1, hx1, hf⟩ := bnd hf
  refine tw_callVz (As := [.int a1, .int a2]) (st := []) X (tC_isRow hx1) tG_isRow tI_isRow ⟨Nat.le_of_ble_eq_true rfl, Nat.le_of_ble_eq_true rfl⟩ ⟨Nat.zero_le _, Nat.zero_le _⟩ 0 rfl rfl rfl rfl (Nat.le_of_ble_eq_true rfl) dX6_row_3 ?_
  intro hb2
  refine tw_if_eq (tgt := 22) X dX6_row_6 rfl hf (fun q4 hf => ?_) (fun q4 hf => ?_)
  · clear q4
    refine tw_bipush (v := -9) X dX6_row_22 rfl ?_
    exact tw_iret X hr (Option.some.inj hf) rfl dX6_row_24
  · clear q4
    refine tw_aload_n X dX6_row_9 rfl 0 rfl ?_
    refine tg_rows X  dX6_row_10 ?_
    refine tw_iconst (v := 3) X dX6_row_13 rfl ?_
    refine tw_iload_n X dX6_row_14 rfl 1 rfl ?_
    refine tw_imul X dX6_row_15 ?_
    refine tw_iload_n X dX6_row_16 rfl 2 rfl ?_
    refine tw_iadd X dX6_row_17 ?_
    obtain ⟨x3, hx3, hf⟩ := bnd hf
    refine ta_rows X hx3 dX6_row_18 ?_
    refine tw_goto (tgt := 24) X dX6_row_19 rfl ?_
    exact tw_iret X hr (Option.some.inj hf) rfl dX6_row_24
noncomputable def tF_token (g : St) : Option (St) :=
  (pf g 0 27 (g 0 28)).bind fun g1 =>
  Option.bind (α := St) (β := St)
    (iter (L := St) (T := St) (fun s65 => 
      (tF_byteAt s65 (s65 0 27)).bind fun x67 =>
      if x67 = (32 : Int32) then
        (pf s65 0 27 ((s65 0 27) + (1 : Int32))).bind fun g68 =>
        some (.inl g68)
      else
        some (.inr s65)) g1)
    (fun j2 => (tF_byteAt j2 (j2 0 27)).bind fun x4 =>
    (tF_byteAt j2 (j2 0 27)).bind fun x6 =>
    if (j2 0 26) ≤ (j2 0 27) then
      (pf j2 0 28 (j2 0 27)).bind fun g8 =>
      iter (L := St) (T := St) (fun s9 => 
        jn (S := Unit) (T := ((St) ⊕ (St)))
          (if (tF_isLetter x4) = 0 then
            if (tF_isDigit x6) = 0 then
              some (.inr (.inr s9))
            else
              (tF_byteAt s9 (s9 0 28)).bind fun x16 =>
              if (tF_isDigit x16) = 0 then
                some (.inr (.inr s9))
              else
                some (.inl ())
          else
            (tF_byteAt s9 (s9 0 28)).bind fun x22 =>
            if (tF_isLetter x22) = 0 then
              if (tF_isDigit x6) = 0 then
                some (.inr (.inr s9))
              else
                (tF_byteAt s9 (s9 0 28)).bind fun x26 =>
                if (tF_isDigit x26) = 0 then
                  some (.inr (.inr s9))
                else
                  some (.inl ())
            else
              some (.inl ()))
          (fun j11 => (pf s9 0 28 ((s9 0 28) + (1 : Int32))).bind fun g13 =>
          some (.inl g13))) g8
    else
      (pf j2 0 28 ((j2 0 27) + (1 : Int32))).bind fun g36 =>
      iter (L := St) (T := St) (fun s37 => 
        jn (S := Unit) (T := ((St) ⊕ (St)))
          (if (tF_isLetter x4) = 0 then
            if (tF_isDigit x6) = 0 then
              some (.inr (.inr s37))
            else
              (tF_byteAt s37 (s37 0 28)).bind fun x44 =>
              if (tF_isDigit x44) = 0 then
                some (.inr (.inr s37))
              else
                some (.inl ())
          else
            (tF_byteAt s37 (s37 0 28)).bind fun x50 =>
            if (tF_isLetter x50) = 0 then
              if (tF_isDigit x6) = 0 then
                some (.inr (.inr s37))
              else
                (tF_byteAt s37 (s37 0 28)).bind fun x54 =>
                if (tF_isDigit x54) = 0 then
                  some (.inr (.inr s37))
                else
                  some (.inl ())
            else
              some (.inl ()))
          (fun j39 => (pf s37 0 28 ((s37 0 28) + (1 : Int32))).bind fun g41 =>
          some (.inl g41))) g36)
set_option maxHeartbeats 4000000 in
theorem tC_token {l : Launch} {D : va_G} {A : Nat → Prop} {o : Nat} {ad : Nat → Nat} {dI : ClassId} {g : St} {z : St} (hf : tF_token g = some z) : Ct l yX6_token cX6_token 3 none 2 45 D vwCl [(dI, .int)] A (tW o ad dI) [.ref o] g (QV D vwCl A (tW o ad dI) z) := by
  unfold tF_token at hf
  refine ct_intro (own := RX6) (lv0 := [(0, .ref o)]) (by decide) rfl (Nat.le_of_ble_eq_true rfl) rfl ?_
  intro p e s m args below meth c X hr
  refine tw_aload_n X dX6_token_0 rfl 0 rfl ?_
  refine tw_aload_n X dX6_token_1 rfl 0 rfl ?_
  refine tg_to X  dX6_token_2 ?_
  obtain ⟨g1, hg1, hf⟩ := bnd hf
  refine tp_from X hg1 dX6_token_5 ?_
  refine bj_walk (P := fun j2 : St => TW p l e (rom 2 45) s m args below meth c (MQ below (QV D vwCl A (tW o ad dI) z) args s 0 0 A) D vwCl A (tW o ad dI) 3 0 0 j2 34 [(0, .ref o)] []) hf ?_ ?_
  · intro j2 hf
    refine tw_aload_n X dX6_token_34 rfl 0 rfl ?_
    refine tw_aload_n X dX6_token_35 rfl 0 rfl ?_
    refine tg_from X  dX6_token_36 ?_
    obtain ⟨x4, hx4, hf⟩ := bnd hf
    refine tw_callVi (As := [.int (j2 0 27)]) (st := []) X (tC_byteAt hx4) tG_byteAt tI_byteAt ⟨Nat.le_of_ble_eq_true rfl, Nat.le_of_ble_eq_true rfl⟩ ⟨Nat.zero_le _, Nat.zero_le _⟩ 0 rfl rfl rfl rfl (Nat.le_of_ble_eq_true rfl) dX6_token_39 ?_
    refine tw_callSz (As := [.int x4]) (st := []) X (tC_isLetter (g := j2) x4) tG_isLetter tI_isLetter ⟨Nat.le_of_ble_eq_true rfl, Nat.le_of_ble_eq_true rfl⟩ ⟨Nat.zero_le _, Nat.zero_le _⟩ rfl rfl (Nat.le_of_ble_eq_true rfl) dX6_token_42 ?_
    intro hb5
    refine tw_istore_n (lv' := [(1, .int (tF_isLetter x4)), (0, .ref o)]) X dX6_token_45 rfl (by decide) rfl ?_
    refine tw_aload_n X dX6_token_46 rfl 1 rfl ?_
    refine tw_aload_n X dX6_token_47 rfl 1 rfl ?_
    refine tg_from X  dX6_token_48 ?_
    obtain ⟨x6, hx6, hf⟩ := bnd hf
    refine tw_callVi (As := [.int (j2 0 27)]) (st := []) X (tC_byteAt hx6) tG_byteAt tI_byteAt ⟨Nat.le_of_ble_eq_true rfl, Nat.le_of_ble_eq_true rfl⟩ ⟨Nat.zero_le _, Nat.zero_le _⟩ 0 rfl rfl rfl rfl (Nat.le_of_ble_eq_true rfl) dX6_token_51 ?_
    refine tw_callSz (As := [.int x6]) (st := []) X (tC_isDigit (g := j2) x6) tG_isDigit tI_isDigit ⟨Nat.le_of_ble_eq_true rfl, Nat.le_of_ble_eq_true rfl⟩ ⟨Nat.zero_le _, Nat.zero_le _⟩ rfl rfl (Nat.le_of_ble_eq_true rfl) dX6_token_54 ?_
    intro hb7
    refine tw_istore_n (lv' := [(2, .int (tF_isDigit x6)), (1, .int (tF_isLetter x4)), (0, .ref o)]) X dX6_token_57 rfl (by decide) rfl ?_
    refine tw_aload_n X dX6_token_58 rfl 2 rfl ?_
    refine tw_aload_n X dX6_token_59 rfl 2 rfl ?_
    refine tg_from X  dX6_token_60 ?_
    refine tw_aload_n X dX6_token_63 rfl 2 rfl ?_
    refine tg_taped X  dX6_token_64 ?_
    refine tw_icmp_ge (tgt := 79) X dX6_token_67 rfl hf (fun q64 hf => ?_) (fun q64 hf => ?_)
    · clear q64
      refine tw_aload_n X dX6_token_79 rfl 2 rfl ?_
      refine tg_from X  dX6_token_80 ?_
      obtain ⟨g8, hg8, hf⟩ := bnd hf
      refine tp_to X hg8 dX6_token_83 ?_
      refine tw_sub [2, 1, 0] (lv' := [(0, .ref o), (1, .int (tF_isLetter x4)), (2, .int (tF_isDigit x6))]) rfl ?_
      refine it_walk (P := fun s9 : St => TW p l e (rom 2 45) s m args below meth c (MQ below (QV D vwCl A (tW o ad dI) z) args s 0 0 A) D vwCl A (tW o ad dI) 3 0 0 s9 86 [(0, .ref o), (1, .int (tF_isLetter x4)), (2, .int (tF_isDigit x6))] []) hf ?_
      intro s9 zz35 hf hl10
      refine tw_iload_n X dX6_token_86 rfl 1 rfl ?_
      refine jn_walk (P := fun j11 : Unit => TW p l e (rom 2 45) s m args below meth c (MQ below (QV D vwCl A (tW o ad dI) z) args s 0 0 A) D vwCl A (tW o ad dI) 3 0 0 s9 122 [(0, .ref o), (1, .int (tF_isLetter x4)), (2, .int (tF_isDigit x6))] []) hf ?_ ?_
      · intro j11 hf
        refine tw_aload_n X dX6_token_122 rfl 0 rfl ?_
        refine tw_dup X dX6_token_123 rfl ?_
        refine tg_to X  dX6_token_124 ?_
        refine tw_iconst (v := 1) X dX6_token_127 rfl ?_
        refine tw_iadd X dX6_token_128 ?_
        obtain ⟨g13, hg13, hf⟩ := bnd hf
        refine tp_to X hg13 dX6_token_129 ?_
        refine tw_goto (tgt := 86) X dX6_token_132 rfl ?_
        have hL := leafL hf hl10
        exact hL
      · intro zz34 hf hk12
        refine tw_if_eq (tgt := 104) X dX6_token_87 rfl hf (fun q33 hf => ?_) (fun q33 hf => ?_)
        · clear q33
          refine tw_iload_n X dX6_token_104 rfl 2 rfl ?_
          refine tw_if_eq (tgt := 135) X dX6_token_105 rfl hf (fun q21 hf => ?_) (fun q21 hf => ?_)
          · clear q21
            have hf14 := leafR hf hk12
            have hf15 := leafR hf14 hl10
            exact tw_vret X hr (Option.some.inj hf15) dX6_token_135
          · clear q21
            refine tw_aload_n X dX6_token_108 rfl 0 rfl ?_
            refine tw_aload_n X dX6_token_109 rfl 0 rfl ?_
            refine tg_to X  dX6_token_110 ?_
            obtain ⟨x16, hx16, hf⟩ := bnd hf
            refine tw_callVi (As := [.int (s9 0 28)]) (st := []) X (tC_byteAt hx16) tG_byteAt tI_byteAt ⟨Nat.le_of_ble_eq_true rfl, Nat.le_of_ble_eq_true rfl⟩ ⟨Nat.zero_le _, Nat.zero_le _⟩ 0 rfl rfl rfl rfl (Nat.le_of_ble_eq_true rfl) dX6_token_113 ?_
            refine tw_callSz (As := [.int x16]) (st := []) X (tC_isDigit (g := s9) x16) tG_isDigit tI_isDigit ⟨Nat.le_of_ble_eq_true rfl, Nat.le_of_ble_eq_true rfl⟩ ⟨Nat.zero_le _, Nat.zero_le _⟩ rfl rfl (Nat.le_of_ble_eq_true rfl) dX6_token_116 ?_
            intro hb17
            refine tw_if_eq (tgt := 135) X dX6_token_119 rfl hf (fun q20 hf => ?_) (fun q20 hf => ?_)
            · clear q20
              have hf18 := leafR hf hk12
              have hf19 := leafR hf18 hl10
              exact tw_vret X hr (Option.some.inj hf19) dX6_token_135
            · clear q20
              have hL := leafL hf hk12
              exact hL
        · clear q33
          refine tw_aload_n X dX6_token_90 rfl 0 rfl ?_
          refine tw_aload_n X dX6_token_91 rfl 0 rfl ?_
          refine tg_to X  dX6_token_92 ?_
          obtain ⟨x22, hx22, hf⟩ := bnd hf
          refine tw_callVi (As := [.int (s9 0 28)]) (st := []) X (tC_byteAt hx22) tG_byteAt tI_byteAt ⟨Nat.le_of_ble_eq_true rfl, Nat.le_of_ble_eq_true rfl⟩ ⟨Nat.zero_le _, Nat.zero_le _⟩ 0 rfl rfl rfl rfl (Nat.le_of_ble_eq_true rfl) dX6_token_95 ?_
          refine tw_callSz (As := [.int x22]) (st := []) X (tC_isLetter (g := s9) x22) tG_isLetter tI_isLetter ⟨Nat.le_of_ble_eq_true rfl, Nat.le_of_ble_eq_true rfl⟩ ⟨Nat.zero_le _, Nat.zero_le _⟩ rfl rfl (Nat.le_of_ble_eq_true rfl) dX6_token_98 ?_
          intro hb23
          refine tw_if_ne (tgt := 122) X dX6_token_101 rfl hf (fun q32 hf => ?_) (fun q32 hf => ?_)
          · clear q32
            refine tw_iload_n X dX6_token_104 rfl 2 rfl ?_
            refine tw_if_eq (tgt := 135) X dX6_token_105 rfl hf (fun q31 hf => ?_) (fun q31 hf => ?_)
            · clear q31
              have hf24 := leafR hf hk12
              have hf25 := leafR hf24 hl10
              exact tw_vret X hr (Option.some.inj hf25) dX6_token_135
            · clear q31
              refine tw_aload_n X dX6_token_108 rfl 0 rfl ?_
              refine tw_aload_n X dX6_token_109 rfl 0 rfl ?_
              refine tg_to X  dX6_token_110 ?_
              obtain ⟨x26, hx26, hf⟩ := bnd hf
              refine tw_callVi (As := [.int (s9 0 28)]) (st := []) X (tC_byteAt hx26) tG_byteAt tI_byteAt ⟨Nat.le_of_ble_eq_true rfl, Nat.le_of_ble_eq_true rfl⟩ ⟨Nat.zero_le _, Nat.zero_le _⟩ 0 rfl rfl rfl rfl (Nat.le_of_ble_eq_true rfl) dX6_token_113 ?_
              refine tw_callSz (As := [.int x26]) (st := []) X (tC_isDigit (g := s9) x26) tG_isDigit tI_isDigit ⟨Nat.le_of_ble_eq_true rfl, Nat.le_of_ble_eq_true rfl⟩ ⟨Nat.zero_le _, Nat.zero_le _⟩ rfl rfl (Nat.le_of_ble_eq_true rfl) dX6_token_116 ?_
              intro hb27
              refine tw_if_eq (tgt := 135) X dX6_token_119 rfl hf (fun q30 hf => ?_) (fun q30 hf => ?_)
              · clear q30
                have hf28 := leafR hf hk12
                have hf29 := leafR hf28 hl10
                exact tw_vret X hr (Option.some.inj hf29) dX6_token_135
              · clear q30
                have hL := leafL hf hk12
                exact hL
          · clear q32
            have hL := leafL hf hk12
            exact hL
    · clear q64
      refine tw_aload_n X dX6_token_70 rfl 2 rfl ?_
      refine tg_from X  dX6_token_71 ?_
      refine tw_iconst (v := 1) X dX6_token_74 rfl ?_
      refine tw_iadd X dX6_token_75 ?_
      refine tw_goto (tgt := 83) X dX6_token_76 rfl ?_
      obtain ⟨g36, hg36, hf⟩ := bnd hf
      refine tp_to X hg36 dX6_token_83 ?_
      refine tw_sub [2, 1, 0] (lv' := [(0, .ref o), (1, .int (tF_isLetter x4)), (2, .int (tF_isDigit x6))]) rfl ?_
      refine it_walk (P := fun s37 : St => TW p l e (rom 2 45) s m args below meth c (MQ below (QV D vwCl A (tW o ad dI) z) args s 0 0 A) D vwCl A (tW o ad dI) 3 0 0 s37 86 [(0, .ref o), (1, .int (tF_isLetter x4)), (2, .int (tF_isDigit x6))] []) hf ?_
      intro s37 zz63 hf hl38
      refine tw_iload_n X dX6_token_86 rfl 1 rfl ?_
      refine jn_walk (P := fun j39 : Unit => TW p l e (rom 2 45) s m args below meth c (MQ below (QV D vwCl A (tW o ad dI) z) args s 0 0 A) D vwCl A (tW o ad dI) 3 0 0 s37 122 [(0, .ref o), (1, .int (tF_isLetter x4)), (2, .int (tF_isDigit x6))] []) hf ?_ ?_
      · intro j39 hf
        refine tw_aload_n X dX6_token_122 rfl 0 rfl ?_
        refine tw_dup X dX6_token_123 rfl ?_
        refine tg_to X  dX6_token_124 ?_
        refine tw_iconst (v := 1) X dX6_token_127 rfl ?_
        refine tw_iadd X dX6_token_128 ?_
        obtain ⟨g41, hg41, hf⟩ := bnd hf
        refine tp_to X hg41 dX6_token_129 ?_
        refine tw_goto (tgt := 86) X dX6_token_132 rfl ?_
        have hL := leafL hf hl38
        exact hL
      · intro zz62 hf hk40
        refine tw_if_eq (tgt := 104) X dX6_token_87 rfl hf (fun q61 hf => ?_) (fun q61 hf => ?_)
        · clear q61
          refine tw_iload_n X dX6_token_104 rfl 2 rfl ?_
          refine tw_if_eq (tgt := 135) X dX6_token_105 rfl hf (fun q49 hf => ?_) (fun q49 hf => ?_)
          · clear q49
            have hf42 := leafR hf hk40
            have hf43 := leafR hf42 hl38
            exact tw_vret X hr (Option.some.inj hf43) dX6_token_135
          · clear q49
            refine tw_aload_n X dX6_token_108 rfl 0 rfl ?_
            refine tw_aload_n X dX6_token_109 rfl 0 rfl ?_
            refine tg_to X  dX6_token_110 ?_
            obtain ⟨x44, hx44, hf⟩ := bnd hf
            refine tw_callVi (As := [.int (s37 0 28)]) (st := []) X (tC_byteAt hx44) tG_byteAt tI_byteAt ⟨Nat.le_of_ble_eq_true rfl, Nat.le_of_ble_eq_true rfl⟩ ⟨Nat.zero_le _, Nat.zero_le _⟩ 0 rfl rfl rfl rfl (Nat.le_of_ble_eq_true rfl) dX6_token_113 ?_
            refine tw_callSz (As := [.int x44]) (st := []) X (tC_isDigit (g := s37) x44) tG_isDigit tI_isDigit ⟨Nat.le_of_ble_eq_true rfl, Nat.le_of_ble_eq_true rfl⟩ ⟨Nat.zero_le _, Nat.zero_le _⟩ rfl rfl (Nat.le_of_ble_eq_true rfl) dX6_token_116 ?_
            intro hb45
            refine tw_if_eq (tgt := 135) X dX6_token_119 rfl hf (fun q48 hf => ?_) (fun q48 hf => ?_)
            · clear q48
              have hf46 := leafR hf hk40
              have hf47 := leafR hf46 hl38
              exact tw_vret X hr (Option.some.inj hf47) dX6_token_135
            · clear q48
              have hL := leafL hf hk40
              exact hL
        · clear q61
          refine tw_aload_n X dX6_token_90 rfl 0 rfl ?_
          refine tw_aload_n X dX6_token_91 rfl 0 rfl ?_
          refine tg_to X  dX6_token_92 ?_
          obtain ⟨x50, hx50, hf⟩ := bnd hf
          refine tw_callVi (As := [.int (s37 0 28)]) (st := []) X (tC_byteAt hx50) tG_byteAt tI_byteAt ⟨Nat.le_of_ble_eq_true rfl, Nat.le_of_ble_eq_true rfl⟩ ⟨Nat.zero_le _, Nat.zero_le _⟩ 0 rfl rfl rfl rfl (Nat.le_of_ble_eq_true rfl) dX6_token_95 ?_
          refine tw_callSz (As := [.int x50]) (st := []) X (tC_isLetter (g := s37) x50) tG_isLetter tI_isLetter ⟨Nat.le_of_ble_eq_true rfl, Nat.le_of_ble_eq_true rfl⟩ ⟨Nat.zero_le _, Nat.zero_le _⟩ rfl rfl (Nat.le_of_ble_eq_true rfl) dX6_token_98 ?_
          intro hb51
          refine tw_if_ne (tgt := 122) X dX6_token_101 rfl hf (fun q60 hf => ?_) (fun q60 hf => ?_)
          · clear q60
            refine tw_iload_n X dX6_token_104 rfl 2 rfl ?_
            refine tw_if_eq (tgt := 135) X dX6_token_105 rfl hf (fun q59 hf => ?_) (fun q59 hf => ?_)
            · clear q59
              have hf52 := leafR hf hk40
              have hf53 := leafR hf52 hl38
              exact tw_vret X hr (Option.some.inj hf53) dX6_token_135
            · clear q59
              refine tw_aload_n X dX6_token_108 rfl 0 rfl ?_
              refine tw_aload_n X dX6_token_109 rfl 0 rfl ?_
              refine tg_to X  dX6_token_110 ?_
              obtain ⟨x54, hx54, hf⟩ := bnd hf
              refine tw_callVi (As := [.int (s37 0 28)]) (st := []) X (tC_byteAt hx54) tG_byteAt tI_byteAt ⟨Nat.le_of_ble_eq_true rfl, Nat.le_of_ble_eq_true rfl⟩ ⟨Nat.zero_le _, Nat.zero_le _⟩ 0 rfl rfl rfl rfl (Nat.le_of_ble_eq_true rfl) dX6_token_113 ?_
              refine tw_callSz (As := [.int x54]) (st := []) X (tC_isDigit (g := s37) x54) tG_isDigit tI_isDigit ⟨Nat.le_of_ble_eq_true rfl, Nat.le_of_ble_eq_true rfl⟩ ⟨Nat.zero_le _, Nat.zero_le _⟩ rfl rfl (Nat.le_of_ble_eq_true rfl) dX6_token_116 ?_
              intro hb55
              refine tw_if_eq (tgt := 135) X dX6_token_119 rfl hf (fun q58 hf => ?_) (fun q58 hf => ?_)
              · clear q58
                have hf56 := leafR hf hk40
                have hf57 := leafR hf56 hl38
                exact tw_vret X hr (Option.some.inj hf57) dX6_token_135
              · clear q58
                have hL := leafL hf hk40
                exact hL
          · clear q60
            have hL := leafL hf hk40
            exact hL
  · intro zz72 hf hk3
    refine it_walk (P := fun s65 : St => TW p l e (rom 2 45) s m args below meth c (MQ below (QV D vwCl A (tW o ad dI) z) args s 0 0 A) D vwCl A (tW o ad dI) 3 0 0 s65 8 [(0, .ref o)] []) hf ?_
    intro s65 zz71 hf hl66
    refine tw_aload_n X dX6_token_8 rfl 0 rfl ?_
    refine tw_aload_n X dX6_token_9 rfl 0 rfl ?_
    refine tg_from X  dX6_token_10 ?_
    obtain ⟨x67, hx67, hf⟩ := bnd hf
    refine tw_callVi (As := [.int (s65 0 27)]) (st := []) X (tC_byteAt hx67) tG_byteAt tI_byteAt ⟨Nat.le_of_ble_eq_true rfl, Nat.le_of_ble_eq_true rfl⟩ ⟨Nat.zero_le _, Nat.zero_le _⟩ 0 rfl rfl rfl rfl (Nat.le_of_ble_eq_true rfl) dX6_token_13 ?_
    refine tw_bipush (v := 32) X dX6_token_16 rfl ?_
    refine tw_icmp_ne (tgt := 34) X dX6_token_18 rfl hf (fun q70 hf => ?_) (fun q70 hf => ?_)
    · clear q70
      refine tw_aload_n X dX6_token_21 rfl 0 rfl ?_
      refine tw_dup X dX6_token_22 rfl ?_
      refine tg_from X  dX6_token_23 ?_
      refine tw_iconst (v := 1) X dX6_token_26 rfl ?_
      refine tw_iadd X dX6_token_27 ?_
      obtain ⟨g68, hg68, hf⟩ := bnd hf
      refine tp_from X hg68 dX6_token_28 ?_
      refine tw_goto (tgt := 8) X dX6_token_31 rfl ?_
      have hL := leafL hf hl66
      exact hL
    · clear q70
      have hf69 := leafR hf hl66
      have hL := hk3 _ hf69
      exact hL
