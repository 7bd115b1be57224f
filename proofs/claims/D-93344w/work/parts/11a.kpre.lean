set_option maxRecDepth 100000
noncomputable def kF_isOf (a1 : Int32) (a2 : Int32) : Int32 :=
  if a2 = 0 then
    (1 : Int32)
  else
    if a2 = a1 then
      (1 : Int32)
    else
      if a2 = (2 : Int32) then
        if a1 = (3 : Int32) then
          (1 : Int32)
        else
          if a2 = (4 : Int32) then
            if a1 = (5 : Int32) then
              (1 : Int32)
            else
              (0 : Int32)
          else
            (0 : Int32)
      else
        if a2 = (4 : Int32) then
          if a1 = (5 : Int32) then
            (1 : Int32)
          else
            (0 : Int32)
        else
          (0 : Int32)
set_option maxHeartbeats 4000000 in
theorem kC_isOf {l : Launch} {D : va_G} {A : Nat → Prop} {K : Nat → Nat} {δ : Nat → ClassId} {sr ρ : Rf} {dy : va_W} {g : St} (a1 : Int32) (a2 : Int32) : Ct l yX0_isOf cX0_isOf 2 (some .boolean) 0 0 D vwCl (kT δ) A (kW K δ sr ρ dy) [.int a1, .int a2] g (QZ D vwCl A (kW K δ sr ρ dy) (kF_isOf a1 a2) g) := by
  generalize hf : kF_isOf a1 a2 = z
  unfold kF_isOf at hf
  refine ct_intro (own := RX0) (lv0 := [(0, .int a1), (1, .int a2)]) (by decide) rfl (Nat.le_of_ble_eq_true rfl) rfl ?_
  intro p e s m args below meth c X hr
  refine tw_iload_n X dX0_isOf_0 rfl 1 rfl ?_
  refine tw_if_eq (tgt := 29) X dX0_isOf_1 rfl hf (fun q8 hf => ?_) (fun q8 hf => ?_)
  · clear q8
    refine tw_iconst (v := 1) X dX0_isOf_29 rfl ?_
    refine tw_goto (tgt := 34) X dX0_isOf_30 rfl ?_
    exact tw_zret X hr (Or.inr rfl) hf rfl dX0_isOf_34
  · clear q8
    refine tw_iload_n X dX0_isOf_4 rfl 1 rfl ?_
    refine tw_iload_n X dX0_isOf_5 rfl 0 rfl ?_
    refine tw_icmp_eq (tgt := 29) X dX0_isOf_6 rfl hf (fun q7 hf => ?_) (fun q7 hf => ?_)
    · clear q7
      refine tw_iconst (v := 1) X dX0_isOf_29 rfl ?_
      refine tw_goto (tgt := 34) X dX0_isOf_30 rfl ?_
      exact tw_zret X hr (Or.inr rfl) hf rfl dX0_isOf_34
    · clear q7
      refine tw_iload_n X dX0_isOf_9 rfl 1 rfl ?_
      refine tw_iconst (v := 2) X dX0_isOf_10 rfl ?_
      refine tw_icmp_ne (tgt := 19) X dX0_isOf_11 rfl hf (fun q6 hf => ?_) (fun q6 hf => ?_)
      · clear q6
        refine tw_iload_n X dX0_isOf_14 rfl 0 rfl ?_
        refine tw_iconst (v := 3) X dX0_isOf_15 rfl ?_
        refine tw_icmp_eq (tgt := 29) X dX0_isOf_16 rfl hf (fun q3 hf => ?_) (fun q3 hf => ?_)
        · clear q3
          refine tw_iconst (v := 1) X dX0_isOf_29 rfl ?_
          refine tw_goto (tgt := 34) X dX0_isOf_30 rfl ?_
          exact tw_zret X hr (Or.inr rfl) hf rfl dX0_isOf_34
        · clear q3
          refine tw_iload_n X dX0_isOf_19 rfl 1 rfl ?_
          refine tw_iconst (v := 4) X dX0_isOf_20 rfl ?_
          refine tw_icmp_ne (tgt := 33) X dX0_isOf_21 rfl hf (fun q2 hf => ?_) (fun q2 hf => ?_)
          · clear q2
            refine tw_iload_n X dX0_isOf_24 rfl 0 rfl ?_
            refine tw_iconst (v := 5) X dX0_isOf_25 rfl ?_
            refine tw_icmp_ne (tgt := 33) X dX0_isOf_26 rfl hf (fun q1 hf => ?_) (fun q1 hf => ?_)
            · clear q1
              refine tw_iconst (v := 1) X dX0_isOf_29 rfl ?_
              refine tw_goto (tgt := 34) X dX0_isOf_30 rfl ?_
              exact tw_zret X hr (Or.inr rfl) hf rfl dX0_isOf_34
            · clear q1
              refine tw_iconst (v := 0) X dX0_isOf_33 rfl ?_
              exact tw_zret X hr (Or.inl rfl) hf rfl dX0_isOf_34
          · clear q2
            refine tw_iconst (v := 0) X dX0_isOf_33 rfl ?_
            exact tw_zret X hr (Or.inl rfl) hf rfl dX0_isOf_34
      · clear q6
        refine tw_iload_n X dX0_isOf_19 rfl 1 rfl ?_
        refine tw_iconst (v := 4) X dX0_isOf_20 rfl ?_
        refine tw_icmp_ne (tgt := 33) X dX0_isOf_21 rfl hf (fun q5 hf => ?_) (fun q5 hf => ?_)
        · clear q5
          refine tw_iload_n X dX0_isOf_24 rfl 0 rfl ?_
          refine tw_iconst (v := 5) X dX0_isOf_25 rfl ?_
          refine tw_icmp_ne (tgt := 33) X dX0_isOf_26 rfl hf (fun q4 hf => ?_) (fun q4 hf => ?_)
          · clear q4
            refine tw_iconst (v := 1) X dX0_isOf_29 rfl ?_
            refine tw_goto (tgt := 34) X dX0_isOf_30 rfl ?_
            exact tw_zret X hr (Or.inr rfl) hf rfl dX0_isOf_34
          · clear q4
            refine tw_iconst (v := 0) X dX0_isOf_33 rfl ?_
            exact tw_zret X hr (Or.inl rfl) hf rfl dX0_isOf_34
        · clear q5
          refine tw_iconst (v := 0) X dX0_isOf_33 rfl ?_
          exact tw_zret X hr (Or.inl rfl) hf rfl dX0_isOf_34
