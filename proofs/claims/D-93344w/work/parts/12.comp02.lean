/-! THE COMPONENT's METHODS (printed by gen/mk_comp.py) -/
set_option maxRecDepth 100000
noncomputable def kF_isDone (g : St) : Option (Int32) :=
  (kF_X3_whole g).bind fun x1 =>
  (kF_absentBit g).bind fun x2 =>
  if (x1 ||| x2) = (((1 : Int32) <<< ((g 40 0) &&& 31)) - (1 : Int32)) then
    some (1 : Int32)
  else
    some (0 : Int32)
set_option maxHeartbeats 4000000 in
theorem kC_isDone {l : Launch} {D : va_G} {A : Nat → Prop} {K : Nat → Nat} {δ : Nat → ClassId} {sr ρ : Rf} {dy : va_W} {g : St} {z : Int32} (hf : kF_isDone g = some z) : Ct l yX0_isDone cX0_isDone 2 (some .boolean) 2 43 D vwCl (kT δ) A (kW K δ sr ρ dy) [.ref (K 0)] g (QZ D vwCl A (kW K δ sr ρ dy) z g) := by
  unfold kF_isDone at hf
  refine ct_intro (own := RX0) (lv0 := [(0, .ref (K 0))]) (by decide) rfl (Nat.le_of_ble_eq_true rfl) rfl ?_
  intro p e s m args below meth c X hr
  refine tw_aload_n X dX0_isDone_0 rfl 0 rfl ?_
  refine kgX0_47_0 X  dX0_isDone_1 ?_
  obtain ⟨x1, hx1, hf⟩ := bnd hf
  refine tw_callVi (As := []) (st := []) X (kC_X3_whole hx1) kGX0_211 kI_X3_whole ⟨Nat.le_of_ble_eq_true rfl, Nat.le_of_ble_eq_true rfl⟩ ⟨Nat.zero_le _, Nat.zero_le _⟩ 3 rfl rfl rfl rfl (Nat.le_of_ble_eq_true rfl) dX0_isDone_4 ?_
  refine tw_aload_n X dX0_isDone_7 rfl 0 rfl ?_
  obtain ⟨x2, hx2, hf⟩ := bnd hf
  refine tw_callVi (As := []) (st := [.int x1]) X (kC_absentBit hx2) kGX0_345 kI_X0_absentBit ⟨Nat.le_of_ble_eq_true rfl, Nat.le_of_ble_eq_true rfl⟩ ⟨Nat.zero_le _, Nat.zero_le _⟩ 0 rfl rfl rfl rfl (Nat.le_of_ble_eq_true rfl) dX0_isDone_8 ?_
  refine tw_ior X dX0_isDone_11 ?_
  refine tw_istore_n (lv' := [(1, .int (x1 ||| x2)), (0, .ref (K 0))]) X dX0_isDone_12 rfl (by decide) rfl ?_
  refine tw_iload_n X dX0_isDone_13 rfl 0 rfl ?_
  refine tw_iconst (v := 1) X dX0_isDone_14 rfl ?_
  refine tw_aload_n X dX0_isDone_15 rfl 1 rfl ?_
  refine kgX0_47_0 X  dX0_isDone_16 ?_
  refine kgX0_147_3 X  dX0_isDone_19 ?_
  refine tw_ishl X dX0_isDone_22 ?_
  refine tw_iconst (v := 1) X dX0_isDone_23 rfl ?_
  refine tw_isub X dX0_isDone_24 ?_
  refine tw_icmp_ne (tgt := 32) X dX0_isDone_25 rfl hf (fun q3 hf => ?_) (fun q3 hf => ?_)
  · clear q3
    refine tw_iconst (v := 1) X dX0_isDone_28 rfl ?_
    refine tw_goto (tgt := 33) X dX0_isDone_29 rfl ?_
    exact tw_zret X hr (Or.inr rfl) (Option.some.inj hf) rfl dX0_isDone_33
  · clear q3
    refine tw_iconst (v := 0) X dX0_isDone_32 rfl ?_
    exact tw_zret X hr (Or.inl rfl) (Option.some.inj hf) rfl dX0_isDone_33
noncomputable def kF_doneIn (E : EE) : Nat → St → Int32 → Int32 → Option (Int32 × St)
  | 0 => fun _ _ _ => none
  | d + 1 => fun g a1 a2 => let rc := kF_doneIn E d
  (kF_isDone g).bind fun x1 =>
  if x1 = 0 then
    (kF_after g (-1 : Int32)).bind fun x3 =>
    iter (L := St × Int32) (T := Int32 × St) (un2 fun s4a s4b => 
      if (99 : Int32) ≤ s4b then
        some (.inr ((0 : Int32), s4a))
      else
        if a1 ≤ 0 then
          some (.inr ((0 : Int32), s4a))
        else
          (kF_can E s4a s4b).bind (un2 fun y8a y8b =>
          jn (S := St) (T := ((St × Int32) ⊕ (Int32 × St)))
            (if y8a = 0 then
              some (.inl y8b)
            else
              (wr y8b 17 6 a2 s4b).bind fun g13 =>
              (dv s4b (10 : Int32)).bind fun x14 =>
              (rd (g13 46) 6 x14).bind fun x15 =>
              (kF_carry E g13 s4b).bind (un2 fun y16a y16b =>
              (rc y16b (a1 - (1 : Int32)) (a2 + (1 : Int32))).bind (un2 fun y17a y17b =>
              (kF_carryBack y17b s4b x15 y16a).bind fun g19 =>
              if y17a = 0 then
                some (.inl g19)
              else
                some (.inr (.inr ((1 : Int32), g19))))))
            (fun j10 => (kF_after j10 s4b).bind fun x12 =>
            some (.inl (j10, x12))))) (g, x3)
  else
    if a1 = 0 then
      some ((1 : Int32), g)
    else
      some ((0 : Int32), g)
set_option maxHeartbeats 4000000 in
theorem kC_doneIn {l : Launch} {D : va_G} {A : Nat → Prop} {K : Nat → Nat} {δ : Nat → ClassId} {sr ρ : Rf} {dy : va_W} {E : EE} (hE : EOK δ ρ dy E) : ∀ (d : Nat) (g : St) (a1 : Int32) (a2 : Int32) (z : Int32 × St), kF_doneIn E d g a1 a2 = some z → Ct l yX0_doneIn cX0_doneIn 7 (some .boolean) (226 + 1 * d) (5210 + 26 * d) D vwCl (kT δ) A (kW K δ sr ρ dy) [.ref (K 0), .int a1, .int a2] g (QZ D vwCl A (kW K δ sr ρ dy) z.1 z.2) := by
  intro d
  induction d with
  | zero =>
    intro g a1 a2 z hf
    cases hf
  | succ d ih =>
    intro g a1 a2 z hf
    rw [kF_doneIn] at hf
    generalize hrc : kF_doneIn E d = rc at hf ih
    dsimp only at hf
    have hrec := ih
    generalize hF : (226 + 1 * d) = F at hrec
    generalize hLo : (5210 + 26 * d) = Lo at hrec
    refine ct_intro (own := RX0) (lv0 := [(0, .ref (K 0)), (1, .int a1), (2, .int a2)]) (by decide) rfl (Nat.le_of_ble_eq_true rfl) rfl ?_
    intro p e s m args below meth c X hr
    refine tw_aload_n X dX0_doneIn_0 rfl 0 rfl ?_
    obtain ⟨x1, hx1, hf⟩ := bnd hf
    refine tw_callVz (As := []) (st := []) X (kC_isDone hx1) kGX0_416 kI_X0_isDone (rom_le (by omega) (by omega)) ⟨Nat.zero_le _, Nat.zero_le _⟩ 0 rfl rfl rfl rfl (Nat.le_of_ble_eq_true rfl) dX0_doneIn_1 ?_
    intro hb2
    refine tw_if_eq (tgt := 17) X dX0_doneIn_4 rfl hf (fun q29 hf => ?_) (fun q29 hf => ?_)
    · clear q29
      refine tw_aload_n X dX0_doneIn_17 rfl 0 rfl ?_
      refine tw_iconst (v := -1) X dX0_doneIn_18 rfl ?_
      obtain ⟨x3, hx3, hf⟩ := bnd hf
      refine tw_callVi (As := [.int (-1 : Int32)]) (st := []) X (kC_after hx3) kGX0_386 kI_X0_after (rom_le (by omega) (by omega)) ⟨Nat.zero_le _, Nat.zero_le _⟩ 0 rfl rfl rfl rfl (Nat.le_of_ble_eq_true rfl) dX0_doneIn_19 ?_
      refine tw_istore_n (lv' := [(3, .int x3), (0, .ref (K 0)), (1, .int a1), (2, .int a2)]) X dX0_doneIn_22 rfl (by decide) rfl ?_
      refine tw_sub [1, 2, 3, 0] (lv' := [(0, .ref (K 0)), (1, .int a1), (2, .int a2), (3, .int x3)]) rfl ?_
      refine it_walk (P := un2 fun s4a s4b => TW p l e (rom (226 + 1 * (d + 1)) (5210 + 26 * (d + 1))) s m args below meth c (MQ below (QZ D vwCl A (kW K δ sr ρ dy) z.1 z.2) args s 0 0 A) D vwCl A (kW K δ sr ρ dy) 7 0 0 s4a 23 [(0, .ref (K 0)), (1, .int a1), (2, .int a2), (3, .int s4b)] []) hf ?_
      rintro ⟨s4a, s4b⟩ zz27 hf hl5
      dsimp only [un2] at hf ⊢
      refine tw_iload_n X dX0_doneIn_23 rfl 3 rfl ?_
      refine tw_bipush (v := 99) X dX0_doneIn_24 rfl ?_
      refine tw_icmp_ge (tgt := 109) X dX0_doneIn_26 rfl hf (fun q26 hf => ?_) (fun q26 hf => ?_)
      · clear q26
        refine tw_iconst (v := 0) X dX0_doneIn_109 rfl ?_
        have hf6 := leafR hf hl5
        exact tw_zret X hr (Or.inl rfl) (prj1 hf6) (prj2 hf6) dX0_doneIn_110
      · clear q26
        refine tw_iload_n X dX0_doneIn_29 rfl 1 rfl ?_
        refine tw_if_le (tgt := 109) X dX0_doneIn_30 rfl hf (fun q25 hf => ?_) (fun q25 hf => ?_)
        · clear q25
          refine tw_iconst (v := 0) X dX0_doneIn_109 rfl ?_
          have hf7 := leafR hf hl5
          exact tw_zret X hr (Or.inl rfl) (prj1 hf7) (prj2 hf7) dX0_doneIn_110
        · clear q25
          refine tw_aload_n X dX0_doneIn_33 rfl 0 rfl ?_
          refine tw_iload_n X dX0_doneIn_34 rfl 3 rfl ?_
          obtain ⟨⟨y8a, y8b⟩, hy8, hf⟩ := bnd hf
          dsimp only [un2] at hf
          refine tw_callVz (As := [.int s4b]) (st := []) X (kC_can hE hy8) kGX0_389 kI_X0_can (rom_le (by omega) (by omega)) ⟨Nat.zero_le _, Nat.zero_le _⟩ 0 rfl rfl rfl rfl (Nat.le_of_ble_eq_true rfl) dX0_doneIn_35 ?_
          intro hb9
          refine jn_walk (P := fun j10 : St => TW p l e (rom (226 + 1 * (d + 1)) (5210 + 26 * (d + 1))) s m args below meth c (MQ below (QZ D vwCl A (kW K δ sr ρ dy) z.1 z.2) args s 0 0 A) D vwCl A (kW K δ sr ρ dy) 7 0 0 j10 100 [(0, .ref (K 0)), (1, .int a1), (2, .int a2), (3, .int s4b)] []) hf ?_ ?_
          · intro j10 hf
            refine tw_aload_n X dX0_doneIn_100 rfl 0 rfl ?_
            refine tw_iload_n X dX0_doneIn_101 rfl 3 rfl ?_
            obtain ⟨x12, hx12, hf⟩ := bnd hf
            refine tw_callVi (As := [.int s4b]) (st := []) X (kC_after hx12) kGX0_386 kI_X0_after (rom_le (by omega) (by omega)) ⟨Nat.zero_le _, Nat.zero_le _⟩ 0 rfl rfl rfl rfl (Nat.le_of_ble_eq_true rfl) dX0_doneIn_102 ?_
            refine tw_istore_n (lv' := [(3, .int x12), (0, .ref (K 0)), (1, .int a1), (2, .int a2)]) X dX0_doneIn_105 rfl (by decide) rfl ?_
            refine tw_goto (tgt := 23) X dX0_doneIn_106 rfl ?_
            refine tw_sub [1, 2, 3, 0] (lv' := [(0, .ref (K 0)), (1, .int a1), (2, .int a2), (3, .int x12)]) rfl ?_
            have hL := leafL hf hl5
            exact hL
          · intro zz24 hf hk11
            refine tw_if_ne (tgt := 44) X dX0_doneIn_38 rfl hf (fun q23 hf => ?_) (fun q23 hf => ?_)
            · clear q23
              refine tw_goto (tgt := 100) X dX0_doneIn_41 rfl ?_
              have hL := leafL hf hk11
              exact hL
            · clear q23
              refine tw_aload_n X dX0_doneIn_44 rfl 0 rfl ?_
              refine kgX0_115_0 X  dX0_doneIn_45 ?_
              refine tw_iload_n X dX0_doneIn_48 rfl 2 rfl ?_
              refine tw_iload_n X dX0_doneIn_49 rfl 3 rfl ?_
              obtain ⟨g13, hg13, hf⟩ := bnd hf
              refine ksX0_17 X hg13 dX0_doneIn_50 ?_
              refine tw_aload_n X dX0_doneIn_51 rfl 0 rfl ?_
              refine kgX0_47_0 X  dX0_doneIn_52 ?_
              refine kgX0_174_3 X  dX0_doneIn_55 ?_
              refine tw_iload_n X dX0_doneIn_58 rfl 3 rfl ?_
              refine tw_bipush (v := 10) X dX0_doneIn_59 rfl ?_
              obtain ⟨x14, hx14, hf⟩ := bnd hf
              refine tw_idivV X dX0_doneIn_61 hx14 ?_
              obtain ⟨x15, hx15, hf⟩ := bnd hf
              refine klX0_46 X hx15 dX0_doneIn_62 ?_
              refine tw_istore (lv' := [(4, .int x15), (0, .ref (K 0)), (1, .int a1), (2, .int a2), (3, .int s4b)]) X dX0_doneIn_63 (by decide) rfl ?_
              refine tw_aload_n X dX0_doneIn_65 rfl 1 rfl ?_
              refine tw_iload_n X dX0_doneIn_66 rfl 4 rfl ?_
              obtain ⟨⟨y16a, y16b⟩, hy16, hf⟩ := bnd hf
              dsimp only [un2] at hf
              refine tw_callVi (As := [.int s4b]) (st := []) X (kC_carry hE hy16) kGX0_392 kI_X0_carry (rom_le (by omega) (by omega)) ⟨Nat.zero_le _, Nat.zero_le _⟩ 0 rfl rfl rfl rfl (Nat.le_of_ble_eq_true rfl) dX0_doneIn_67 ?_
              refine tw_istore (lv' := [(5, .int y16a), (4, .int x15), (0, .ref (K 0)), (1, .int a1), (2, .int a2), (3, .int s4b)]) X dX0_doneIn_70 (by decide) rfl ?_
              refine tw_aload_n X dX0_doneIn_72 rfl 2 rfl ?_
              refine tw_iload_n X dX0_doneIn_73 rfl 3 rfl ?_
              refine tw_iconst (v := 1) X dX0_doneIn_74 rfl ?_
              refine tw_isub X dX0_doneIn_75 ?_
              refine tw_iload_n X dX0_doneIn_76 rfl 4 rfl ?_
              refine tw_iconst (v := 1) X dX0_doneIn_77 rfl ?_
              refine tw_iadd X dX0_doneIn_78 ?_
              obtain ⟨⟨y17a, y17b⟩, hy17, hf⟩ := bnd hf
              dsimp only [un2] at hf
              refine tw_callVz (As := [.int (a1 - (1 : Int32)), .int (a2 + (1 : Int32))]) (st := []) X (hrec _ _ _ _ hy17) kGX0_420 kI_X0_doneIn (rom_le (by omega) (by omega)) ⟨Nat.zero_le _, Nat.zero_le _⟩ 0 rfl rfl rfl rfl (Nat.le_of_ble_eq_true rfl) dX0_doneIn_79 ?_
              intro hb18
              refine tw_istore (lv' := [(6, .int y17a), (5, .int y16a), (4, .int x15), (0, .ref (K 0)), (1, .int a1), (2, .int a2), (3, .int s4b)]) X dX0_doneIn_82 (by decide) rfl ?_
              refine tw_aload_n X dX0_doneIn_84 rfl 3 rfl ?_
              refine tw_iload_n X dX0_doneIn_85 rfl 6 rfl ?_
              refine tw_iload X dX0_doneIn_86 2 rfl ?_
              refine tw_iload X dX0_doneIn_88 1 rfl ?_
              obtain ⟨g19, hg19, hf⟩ := bnd hf
              refine tw_callVv (As := [.int s4b, .int x15, .int y16a]) (st := []) X (kC_carryBack hg19) kGX0_413 kI_X0_carryBack (rom_le (by omega) (by omega)) ⟨Nat.zero_le _, Nat.zero_le _⟩ 0 rfl rfl rfl rfl (Nat.le_of_ble_eq_true rfl) dX0_doneIn_90 ?_
              refine tw_iload X dX0_doneIn_93 0 rfl ?_
              refine tw_if_eq (tgt := 100) X dX0_doneIn_95 rfl hf (fun q22 hf => ?_) (fun q22 hf => ?_)
              · clear q22
                refine tw_sub [3, 4, 5, 6] (lv' := [(0, .ref (K 0)), (1, .int a1), (2, .int a2), (3, .int s4b)]) rfl ?_
                have hL := leafL hf hk11
                exact hL
              · clear q22
                refine tw_iconst (v := 1) X dX0_doneIn_98 rfl ?_
                have hf20 := leafR hf hk11
                have hf21 := leafR hf20 hl5
                exact tw_zret X hr (Or.inr rfl) (prj1 hf21) (prj2 hf21) dX0_doneIn_99
    · clear q29
      refine tw_iload_n X dX0_doneIn_7 rfl 1 rfl ?_
      refine tw_if_ne (tgt := 15) X dX0_doneIn_8 rfl hf (fun q28 hf => ?_) (fun q28 hf => ?_)
      · clear q28
        refine tw_iconst (v := 1) X dX0_doneIn_11 rfl ?_
        refine tw_goto (tgt := 16) X dX0_doneIn_12 rfl ?_
        exact tw_zret X hr (Or.inr rfl) (prj1 hf) (prj2 hf) dX0_doneIn_16
      · clear q28
        refine tw_iconst (v := 0) X dX0_doneIn_15 rfl ?_
        exact tw_zret X hr (Or.inl rfl) (prj1 hf) (prj2 hf) dX0_doneIn_16
noncomputable def kF_fewestOf (E : EE) (g : St) (a1 : Int32) : Option (Int32 × St) :=
  Option.bind (α := St × Int32) (β := Int32 × St)
    (iter (L := St × Int32) (T := St × Int32) (un2 fun s4a s4b => 
      if a1 < s4b then
        some (.inr (s4a, s4b))
      else
        (kF_doneIn E 8 s4a s4b (0 : Int32)).bind (un2 fun y7a y7b =>
        if y7a = 0 then
          some (.inl (y7b, (s4b + (1 : Int32))))
        else
          some (.inr (y7b, s4b)))) (g, (0 : Int32)))
    (un2 fun j1a j1b => if a1 < j1b then
      some ((-3 : Int32), j1a)
    else
      some (j1b, j1a))
set_option maxHeartbeats 4000000 in
theorem kC_fewestOf {l : Launch} {D : va_G} {A : Nat → Prop} {K : Nat → Nat} {δ : Nat → ClassId} {sr ρ : Rf} {dy : va_W} {E : EE} (hE : EOK δ ρ dy E) {g : St} {a1 : Int32} {z : Int32 × St} (hf : kF_fewestOf E g a1 = some z) : Ct l yX0_fewestOf cX0_fewestOf 3 (some .int) 235 5444 D vwCl (kT δ) A (kW K δ sr ρ dy) [.ref (K 0), .int a1] g (QI D vwCl A (kW K δ sr ρ dy) z.1 z.2) := by
  unfold kF_fewestOf at hf
  refine ct_intro (own := RX0) (lv0 := [(0, .ref (K 0)), (1, .int a1)]) (by decide) rfl (Nat.le_of_ble_eq_true rfl) rfl ?_
  intro p e s m args below meth c X hr
  refine tw_iconst (v := 0) X dX0_fewestOf_0 rfl ?_
  refine tw_istore_n (lv' := [(2, .int (0 : Int32)), (0, .ref (K 0)), (1, .int a1)]) X dX0_fewestOf_1 rfl (by decide) rfl ?_
  refine bj_walk (P := un2 fun j1a j1b => TW p l e (rom 235 5444) s m args below meth c (MQ below (QI D vwCl A (kW K δ sr ρ dy) z.1 z.2) args s 0 0 A) D vwCl A (kW K δ sr ρ dy) 3 0 0 j1a 22 [(1, .int a1), (2, .int j1b)] []) hf ?_ ?_
  · rintro ⟨j1a, j1b⟩ hf
    dsimp only [un2] at hf ⊢
    refine tw_iload_n X dX0_fewestOf_22 rfl 1 rfl ?_
    refine tw_iload_n X dX0_fewestOf_23 rfl 0 rfl ?_
    refine tw_icmp_gt (tgt := 31) X dX0_fewestOf_24 rfl hf (fun q3 hf => ?_) (fun q3 hf => ?_)
    · clear q3
      refine tw_bipush (v := -3) X dX0_fewestOf_31 rfl ?_
      exact tw_iret X hr (prj1 hf) (prj2 hf) dX0_fewestOf_33
    · clear q3
      refine tw_iload_n X dX0_fewestOf_27 rfl 1 rfl ?_
      refine tw_goto (tgt := 33) X dX0_fewestOf_28 rfl ?_
      exact tw_iret X hr (prj1 hf) (prj2 hf) dX0_fewestOf_33
  · intro zz13 hf hk2
    refine tw_sub [1, 2, 0] (lv' := [(0, .ref (K 0)), (1, .int a1), (2, .int (0 : Int32))]) rfl ?_
    refine it_walk (P := un2 fun s4a s4b => TW p l e (rom 235 5444) s m args below meth c (MQ below (QI D vwCl A (kW K δ sr ρ dy) z.1 z.2) args s 0 0 A) D vwCl A (kW K δ sr ρ dy) 3 0 0 s4a 2 [(0, .ref (K 0)), (1, .int a1), (2, .int s4b)] []) hf ?_
    rintro ⟨s4a, s4b⟩ zz12 hf hl5
    dsimp only [un2] at hf ⊢
    refine tw_iload_n X dX0_fewestOf_2 rfl 2 rfl ?_
    refine tw_iload_n X dX0_fewestOf_3 rfl 1 rfl ?_
    refine tw_icmp_gt (tgt := 22) X dX0_fewestOf_4 rfl hf (fun q11 hf => ?_) (fun q11 hf => ?_)
    · clear q11
      have hf6 := leafR hf hl5
      refine tw_sub [1, 2] (lv' := [(1, .int a1), (2, .int s4b)]) rfl ?_
      have hL := hk2 _ hf6
      exact hL
    · clear q11
      refine tw_aload_n X dX0_fewestOf_7 rfl 0 rfl ?_
      refine tw_iload_n X dX0_fewestOf_8 rfl 2 rfl ?_
      refine tw_iconst (v := 0) X dX0_fewestOf_9 rfl ?_
      obtain ⟨⟨y7a, y7b⟩, hy7, hf⟩ := bnd hf
      dsimp only [un2] at hf
      refine tw_callVz (As := [.int s4b, .int (0 : Int32)]) (st := []) X (kC_doneIn hE 8 _ _ _ _ hy7) kGX0_420 kI_X0_doneIn ⟨Nat.le_of_ble_eq_true rfl, Nat.le_of_ble_eq_true rfl⟩ ⟨Nat.zero_le _, Nat.zero_le _⟩ 0 rfl rfl rfl rfl (Nat.le_of_ble_eq_true rfl) dX0_fewestOf_10 ?_
      intro hb8
      refine tw_if_ne (tgt := 22) X dX0_fewestOf_13 rfl hf (fun q10 hf => ?_) (fun q10 hf => ?_)
      · clear q10
        refine tw_iinc (q := 2) (v := (s4b + (1 : Int32))) (lv' := [(2, .int (s4b + (1 : Int32))), (0, .ref (K 0)), (1, .int a1)]) X dX0_fewestOf_16 rfl rfl (by decide) rfl ?_
        refine tw_goto (tgt := 2) X dX0_fewestOf_19 rfl ?_
        refine tw_sub [1, 2, 0] (lv' := [(0, .ref (K 0)), (1, .int a1), (2, .int (s4b + (1 : Int32)))]) rfl ?_
        have hL := leafL hf hl5
        exact hL
      · clear q10
        have hf9 := leafR hf hl5
        refine tw_sub [1, 2] (lv' := [(1, .int a1), (2, .int s4b)]) rfl ?_
        have hL := hk2 _ hf9
        exact hL
noncomputable def kF_fewest (E : EE) (g : St) : Option (Int32 × St) :=
  (kF_fewestOf E g (6 : Int32)).bind (un2 fun y1a y1b =>
  some (y1a, y1b))
set_option maxHeartbeats 4000000 in
theorem kC_fewest {l : Launch} {D : va_G} {A : Nat → Prop} {K : Nat → Nat} {δ : Nat → ClassId} {sr ρ : Rf} {dy : va_W} {E : EE} (hE : EOK δ ρ dy E) {g : St} {z : Int32 × St} (hf : kF_fewest E g = some z) : Ct l yX0_fewest cX0_fewest 1 (some .int) 236 5466 D vwCl (kT δ) A (kW K δ sr ρ dy) [.ref (K 0)] g (QI D vwCl A (kW K δ sr ρ dy) z.1 z.2) := by
  unfold kF_fewest at hf
  refine ct_intro (own := RX0) (lv0 := [(0, .ref (K 0))]) (by decide) rfl (Nat.le_of_ble_eq_true rfl) rfl ?_
  intro p e s m args below meth c X hr
  refine tw_aload_n X dX0_fewest_0 rfl 0 rfl ?_
  refine tw_bipush (v := 6) X dX0_fewest_1 rfl ?_
  obtain ⟨⟨y1a, y1b⟩, hy1, hf⟩ := bnd hf
  dsimp only [un2] at hf
  refine tw_callVi (As := [.int (6 : Int32)]) (st := []) X (kC_fewestOf hE hy1) kGX0_423 kI_X0_fewestOf ⟨Nat.le_of_ble_eq_true rfl, Nat.le_of_ble_eq_true rfl⟩ ⟨Nat.zero_le _, Nat.zero_le _⟩ 0 rfl rfl rfl rfl (Nat.le_of_ble_eq_true rfl) dX0_fewest_3 ?_
  exact tw_iret X hr (prj1 hf) (prj2 hf) dX0_fewest_6
noncomputable def kF_ith (E : EE) (g : St) (a1 : Int32) : Option (Int32 × St) :=
  if (kF_isIn a1 (0 : Int32) (5 : Int32)) = 0 then
    some ((-1 : Int32), g)
  else
    (kF_fewestOf E g (6 : Int32)).bind (un2 fun y2a y2b =>
    if y2a ≤ a1 then
      some ((-3 : Int32), y2b)
    else
      (rd (y2b 17) 6 a1).bind fun x3 =>
      some (x3, y2b))
set_option maxHeartbeats 4000000 in
theorem kC_ith {l : Launch} {D : va_G} {A : Nat → Prop} {K : Nat → Nat} {δ : Nat → ClassId} {sr ρ : Rf} {dy : va_W} {E : EE} (hE : EOK δ ρ dy E) {g : St} {a1 : Int32} {z : Int32 × St} (hf : kF_ith E g a1 = some z) : Ct l yX0_ith cX0_ith 2 (some .int) 236 5466 D vwCl (kT δ) A (kW K δ sr ρ dy) [.ref (K 0), .int a1] g (QI D vwCl A (kW K δ sr ρ dy) z.1 z.2) := by
  unfold kF_ith at hf
  refine ct_intro (own := RX0) (lv0 := [(0, .ref (K 0)), (1, .int a1)]) (by decide) rfl (Nat.le_of_ble_eq_true rfl) rfl ?_
  intro p e s m args below meth c X hr
  refine tw_iload_n X dX0_ith_0 rfl 1 rfl ?_
  refine tw_iconst (v := 0) X dX0_ith_1 rfl ?_
  refine tw_iconst (v := 5) X dX0_ith_2 rfl ?_
  refine tw_callSz (As := [.int a1, .int (0 : Int32), .int (5 : Int32)]) (st := []) X (kC_isIn (g := g) a1 (0 : Int32) (5 : Int32)) kGX0_149 kI_X0_isIn ⟨Nat.le_of_ble_eq_true rfl, Nat.le_of_ble_eq_true rfl⟩ ⟨Nat.zero_le _, Nat.zero_le _⟩ rfl rfl (Nat.le_of_ble_eq_true rfl) dX0_ith_3 ?_
  intro hb1
  refine tw_if_ne (tgt := 11) X dX0_ith_6 rfl hf (fun q5 hf => ?_) (fun q5 hf => ?_)
  · clear q5
    refine tw_iconst (v := -1) X dX0_ith_9 rfl ?_
    exact tw_iret X hr (prj1 hf) (prj2 hf) dX0_ith_10
  · clear q5
    refine tw_iload_n X dX0_ith_11 rfl 1 rfl ?_
    refine tw_aload_n X dX0_ith_12 rfl 0 rfl ?_
    refine tw_bipush (v := 6) X dX0_ith_13 rfl ?_
    obtain ⟨⟨y2a, y2b⟩, hy2, hf⟩ := bnd hf
    dsimp only [un2] at hf
    refine tw_callVi (As := [.int (6 : Int32)]) (st := [.int a1]) X (kC_fewestOf hE hy2) kGX0_423 kI_X0_fewestOf ⟨Nat.le_of_ble_eq_true rfl, Nat.le_of_ble_eq_true rfl⟩ ⟨Nat.zero_le _, Nat.zero_le _⟩ 0 rfl rfl rfl rfl (Nat.le_of_ble_eq_true rfl) dX0_ith_15 ?_
    refine tw_icmp_ge (tgt := 30) X dX0_ith_18 rfl hf (fun q4 hf => ?_) (fun q4 hf => ?_)
    · clear q4
      refine tw_bipush (v := -3) X dX0_ith_30 rfl ?_
      exact tw_iret X hr (prj1 hf) (prj2 hf) dX0_ith_32
    · clear q4
      refine tw_aload_n X dX0_ith_21 rfl 0 rfl ?_
      refine kgX0_115_0 X  dX0_ith_22 ?_
      refine tw_iload_n X dX0_ith_25 rfl 1 rfl ?_
      obtain ⟨x3, hx3, hf⟩ := bnd hf
      refine klX0_17 X hx3 dX0_ith_26 ?_
      refine tw_goto (tgt := 32) X dX0_ith_27 rfl ?_
      exact tw_iret X hr (prj1 hf) (prj2 hf) dX0_ith_32
noncomputable def kF_rowsFrom (E : EE) : Nat → St → Int32 → Int32 → Int32 → Option (St)
  | 0 => fun _ _ _ _ => none
  | d + 1 => fun g a1 a2 a3 => let rc := kF_rowsFrom E d
  (kF_X3_whole g).bind fun x1 =>
  (pf g 0 20 (if (g 0 20) < (kF_J3_bitCount x1) then (kF_J3_bitCount x1) else (g 0 20))).bind fun g2 =>
  (kF_isDone g2).bind fun x3 =>
  if x3 = 0 then
    (kF_after g2 (-1 : Int32)).bind fun x5 =>
    iter (L := St × Int32) (T := St) (un2 fun s6a s6b => 
      if (99 : Int32) ≤ s6b then
        some (.inr s6a)
      else
        if a1 ≤ 0 then
          some (.inr s6a)
        else
          (kF_can E s6a s6b).bind (un2 fun y10a y10b =>
          Option.bind (α := St) (β := ((St × Int32) ⊕ (St)))
            (if y10a = 0 then
              some y10b
            else
              (wr y10b 17 6 a2 s6b).bind fun g15 =>
              (dv s6b (10 : Int32)).bind fun x16 =>
              (rd (g15 46) 6 x16).bind fun x17 =>
              (kF_carry E g15 s6b).bind (un2 fun y18a y18b =>
              (rc y18b (a1 - (1 : Int32)) (a2 + (1 : Int32)) (a3 + y18a)).bind fun g19 =>
              (kF_carryBack g19 s6b x17 y18a).bind fun g20 =>
              some g20))
            (fun j12 => (kF_after j12 s6b).bind fun x14 =>
            some (.inl (j12, x14))))) (g2, x5)
  else
    (pf g2 0 19 ((g2 0 19) + (1 : Int32))).bind fun g26 =>
    jn (S := Unit) (T := St)
      (if (g26 0 21) < 0 then
        some (.inl ())
      else
        if a3 < (g26 0 21) then
          some (.inl ())
        else
          some (.inr g26))
      (fun j27 => (pf g26 0 21 a3).bind fun g29 =>
      (pf g29 0 18 a2).bind fun g30 =>
      (cpy g30 17 6 18 6 (0 : Int32) (0 : Int32) a2).bind fun g31 =>
      some g31)
set_option maxHeartbeats 4000000 in
theorem kC_rowsFrom {l : Launch} {D : va_G} {A : Nat → Prop} {K : Nat → Nat} {δ : Nat → ClassId} {sr ρ : Rf} {dy : va_W} {E : EE} (hE : EOK δ ρ dy E) : ∀ (d : Nat) (g : St) (a1 : Int32) (a2 : Int32) (a3 : Int32) (z : St), kF_rowsFrom E d g a1 a2 a3 = some z → Ct l yX0_rowsFrom cX0_rowsFrom 7 none (226 + 1 * d) (5210 + 26 * d) D vwCl (kT δ) A (kW K δ sr ρ dy) [.ref (K 0), .int a1, .int a2, .int a3] g (QV D vwCl A (kW K δ sr ρ dy) z) := by
  intro d
  induction d with
  | zero =>
    intro g a1 a2 a3 z hf
    cases hf
  | succ d ih =>
    intro g a1 a2 a3 z hf
    rw [kF_rowsFrom] at hf
    generalize hrc : kF_rowsFrom E d = rc at hf ih
    dsimp only at hf
    have hrec := ih
    generalize hF : (226 + 1 * d) = F at hrec
    generalize hLo : (5210 + 26 * d) = Lo at hrec
    refine ct_intro (own := RX0) (lv0 := [(0, .ref (K 0)), (1, .int a1), (2, .int a2), (3, .int a3)]) (by decide) rfl (Nat.le_of_ble_eq_true rfl) rfl ?_
    intro p e s m args below meth c X hr
    refine tw_aload_n X dX0_rowsFrom_0 rfl 0 rfl ?_
    refine tw_aload_n X dX0_rowsFrom_1 rfl 0 rfl ?_
    refine kgX0_426_0 X  dX0_rowsFrom_2 ?_
    refine tw_aload_n X dX0_rowsFrom_5 rfl 0 rfl ?_
    refine kgX0_47_0 X  dX0_rowsFrom_6 ?_
    obtain ⟨x1, hx1, hf⟩ := bnd hf
    refine tw_callVi (As := []) (st := [.int (g 0 20), .ref (K 0)]) X (kC_X3_whole hx1) kGX0_211 kI_X3_whole (rom_le (by omega) (by omega)) ⟨Nat.zero_le _, Nat.zero_le _⟩ 3 rfl rfl rfl rfl (Nat.le_of_ble_eq_true rfl) dX0_rowsFrom_9 ?_
    refine tw_callSi (As := [.int x1]) (st := [.int (g 0 20), .ref (K 0)]) X (kC_J3_bitCount (g := g) x1) kGX0_348 kI_J3_bitCount (rom_le (by omega) (by omega)) ⟨Nat.zero_le _, Nat.zero_le _⟩ rfl rfl (Nat.le_of_ble_eq_true rfl) dX0_rowsFrom_12 ?_
    refine tw_mmax X q597 (rom_40 (by omega) (by omega)) ⟨Nat.zero_le _, Nat.zero_le _⟩ (Nat.le_of_ble_eq_true rfl) dX0_rowsFrom_15 ?_
    obtain ⟨g2, hg2, hf⟩ := bnd hf
    refine kpX0_426_0 X hg2 dX0_rowsFrom_18 ?_
    refine tw_aload_n X dX0_rowsFrom_21 rfl 0 rfl ?_
    obtain ⟨x3, hx3, hf⟩ := bnd hf
    refine tw_callVz (As := []) (st := []) X (kC_isDone hx3) kGX0_416 kI_X0_isDone (rom_le (by omega) (by omega)) ⟨Nat.zero_le _, Nat.zero_le _⟩ 0 rfl rfl rfl rfl (Nat.le_of_ble_eq_true rfl) dX0_rowsFrom_22 ?_
    intro hb4
    refine tw_if_eq (tgt := 79) X dX0_rowsFrom_25 rfl hf (fun q36 hf => ?_) (fun q36 hf => ?_)
    · clear q36
      refine tw_aload_n X dX0_rowsFrom_79 rfl 0 rfl ?_
      refine tw_iconst (v := -1) X dX0_rowsFrom_80 rfl ?_
      obtain ⟨x5, hx5, hf⟩ := bnd hf
      refine tw_callVi (As := [.int (-1 : Int32)]) (st := []) X (kC_after hx5) kGX0_386 kI_X0_after (rom_le (by omega) (by omega)) ⟨Nat.zero_le _, Nat.zero_le _⟩ 0 rfl rfl rfl rfl (Nat.le_of_ble_eq_true rfl) dX0_rowsFrom_81 ?_
      refine tw_istore (lv' := [(4, .int x5), (0, .ref (K 0)), (1, .int a1), (2, .int a2), (3, .int a3)]) X dX0_rowsFrom_84 (by decide) rfl ?_
      refine tw_sub [1, 2, 3, 4, 0] (lv' := [(0, .ref (K 0)), (1, .int a1), (2, .int a2), (3, .int a3), (4, .int x5)]) rfl ?_
      refine it_walk (P := un2 fun s6a s6b => TW p l e (rom (226 + 1 * (d + 1)) (5210 + 26 * (d + 1))) s m args below meth c (MQ below (QV D vwCl A (kW K δ sr ρ dy) z) args s 0 0 A) D vwCl A (kW K δ sr ρ dy) 7 0 0 s6a 86 [(0, .ref (K 0)), (1, .int a1), (2, .int a2), (3, .int a3), (4, .int s6b)] []) hf ?_
      rintro ⟨s6a, s6b⟩ zz25 hf hl7
      dsimp only [un2] at hf ⊢
      refine tw_iload X dX0_rowsFrom_86 4 rfl ?_
      refine tw_bipush (v := 99) X dX0_rowsFrom_88 rfl ?_
      refine tw_icmp_ge (tgt := 175) X dX0_rowsFrom_90 rfl hf (fun q24 hf => ?_) (fun q24 hf => ?_)
      · clear q24
        have hf8 := leafR hf hl7
        exact tw_vret X hr (Option.some.inj hf8) dX0_rowsFrom_175
      · clear q24
        refine tw_iload_n X dX0_rowsFrom_93 rfl 1 rfl ?_
        refine tw_if_le (tgt := 175) X dX0_rowsFrom_94 rfl hf (fun q23 hf => ?_) (fun q23 hf => ?_)
        · clear q23
          have hf9 := leafR hf hl7
          exact tw_vret X hr (Option.some.inj hf9) dX0_rowsFrom_175
        · clear q23
          refine tw_aload_n X dX0_rowsFrom_97 rfl 0 rfl ?_
          refine tw_iload X dX0_rowsFrom_98 4 rfl ?_
          obtain ⟨⟨y10a, y10b⟩, hy10, hf⟩ := bnd hf
          dsimp only [un2] at hf
          refine tw_callVz (As := [.int s6b]) (st := []) X (kC_can hE hy10) kGX0_389 kI_X0_can (rom_le (by omega) (by omega)) ⟨Nat.zero_le _, Nat.zero_le _⟩ 0 rfl rfl rfl rfl (Nat.le_of_ble_eq_true rfl) dX0_rowsFrom_100 ?_
          intro hb11
          refine bj_walk (P := fun j12 : St => TW p l e (rom (226 + 1 * (d + 1)) (5210 + 26 * (d + 1))) s m args below meth c (MQ below (QV D vwCl A (kW K δ sr ρ dy) z) args s 0 0 A) D vwCl A (kW K δ sr ρ dy) 7 0 0 j12 164 [(0, .ref (K 0)), (1, .int a1), (2, .int a2), (3, .int a3), (4, .int s6b)] []) hf ?_ ?_
          · intro j12 hf
            refine tw_aload_n X dX0_rowsFrom_164 rfl 0 rfl ?_
            refine tw_iload X dX0_rowsFrom_165 4 rfl ?_
            obtain ⟨x14, hx14, hf⟩ := bnd hf
            refine tw_callVi (As := [.int s6b]) (st := []) X (kC_after hx14) kGX0_386 kI_X0_after (rom_le (by omega) (by omega)) ⟨Nat.zero_le _, Nat.zero_le _⟩ 0 rfl rfl rfl rfl (Nat.le_of_ble_eq_true rfl) dX0_rowsFrom_167 ?_
            refine tw_istore (lv' := [(4, .int x14), (0, .ref (K 0)), (1, .int a1), (2, .int a2), (3, .int a3)]) X dX0_rowsFrom_170 (by decide) rfl ?_
            refine tw_goto (tgt := 86) X dX0_rowsFrom_172 rfl ?_
            refine tw_sub [1, 2, 3, 4, 0] (lv' := [(0, .ref (K 0)), (1, .int a1), (2, .int a2), (3, .int a3), (4, .int x14)]) rfl ?_
            have hL := leafL hf hl7
            exact hL
          · intro zz22 hf hk13
            refine tw_if_ne (tgt := 109) X dX0_rowsFrom_103 rfl hf (fun q21 hf => ?_) (fun q21 hf => ?_)
            · clear q21
              refine tw_goto (tgt := 164) X dX0_rowsFrom_106 rfl ?_
              have hL := hk13 _ hf
              exact hL
            · clear q21
              refine tw_aload_n X dX0_rowsFrom_109 rfl 0 rfl ?_
              refine kgX0_115_0 X  dX0_rowsFrom_110 ?_
              refine tw_iload_n X dX0_rowsFrom_113 rfl 2 rfl ?_
              refine tw_iload X dX0_rowsFrom_114 4 rfl ?_
              obtain ⟨g15, hg15, hf⟩ := bnd hf
              refine ksX0_17 X hg15 dX0_rowsFrom_116 ?_
              refine tw_aload_n X dX0_rowsFrom_117 rfl 0 rfl ?_
              refine kgX0_47_0 X  dX0_rowsFrom_118 ?_
              refine kgX0_174_3 X  dX0_rowsFrom_121 ?_
              refine tw_iload X dX0_rowsFrom_124 4 rfl ?_
              refine tw_bipush (v := 10) X dX0_rowsFrom_126 rfl ?_
              obtain ⟨x16, hx16, hf⟩ := bnd hf
              refine tw_idivV X dX0_rowsFrom_128 hx16 ?_
              obtain ⟨x17, hx17, hf⟩ := bnd hf
              refine klX0_46 X hx17 dX0_rowsFrom_129 ?_
              refine tw_istore (lv' := [(5, .int x17), (0, .ref (K 0)), (1, .int a1), (2, .int a2), (3, .int a3), (4, .int s6b)]) X dX0_rowsFrom_130 (by decide) rfl ?_
              refine tw_aload_n X dX0_rowsFrom_132 rfl 1 rfl ?_
              refine tw_iload X dX0_rowsFrom_133 5 rfl ?_
              obtain ⟨⟨y18a, y18b⟩, hy18, hf⟩ := bnd hf
              dsimp only [un2] at hf
              refine tw_callVi (As := [.int s6b]) (st := []) X (kC_carry hE hy18) kGX0_392 kI_X0_carry (rom_le (by omega) (by omega)) ⟨Nat.zero_le _, Nat.zero_le _⟩ 0 rfl rfl rfl rfl (Nat.le_of_ble_eq_true rfl) dX0_rowsFrom_135 ?_
              refine tw_istore (lv' := [(6, .int y18a), (5, .int x17), (0, .ref (K 0)), (1, .int a1), (2, .int a2), (3, .int a3), (4, .int s6b)]) X dX0_rowsFrom_138 (by decide) rfl ?_
              refine tw_aload_n X dX0_rowsFrom_140 rfl 2 rfl ?_
              refine tw_iload_n X dX0_rowsFrom_141 rfl 3 rfl ?_
              refine tw_iconst (v := 1) X dX0_rowsFrom_142 rfl ?_
              refine tw_isub X dX0_rowsFrom_143 ?_
              refine tw_iload_n X dX0_rowsFrom_144 rfl 4 rfl ?_
              refine tw_iconst (v := 1) X dX0_rowsFrom_145 rfl ?_
              refine tw_iadd X dX0_rowsFrom_146 ?_
              refine tw_iload_n X dX0_rowsFrom_147 rfl 5 rfl ?_
              refine tw_iload X dX0_rowsFrom_148 0 rfl ?_
              refine tw_iadd X dX0_rowsFrom_150 ?_
              obtain ⟨g19, hg19, hf⟩ := bnd hf
              refine tw_callVv (As := [.int (a1 - (1 : Int32)), .int (a2 + (1 : Int32)), .int (a3 + y18a)]) (st := []) X (hrec _ _ _ _ _ hg19) kGX0_438 kI_X0_rowsFrom (rom_le (by omega) (by omega)) ⟨Nat.zero_le _, Nat.zero_le _⟩ 0 rfl rfl rfl rfl (Nat.le_of_ble_eq_true rfl) dX0_rowsFrom_151 ?_
              refine tw_aload_n X dX0_rowsFrom_154 rfl 2 rfl ?_
              refine tw_iload X dX0_rowsFrom_155 6 rfl ?_
              refine tw_iload X dX0_rowsFrom_157 1 rfl ?_
              refine tw_iload X dX0_rowsFrom_159 0 rfl ?_
              obtain ⟨g20, hg20, hf⟩ := bnd hf
              refine tw_callVv (As := [.int s6b, .int x17, .int y18a]) (st := []) X (kC_carryBack hg20) kGX0_413 kI_X0_carryBack (rom_le (by omega) (by omega)) ⟨Nat.zero_le _, Nat.zero_le _⟩ 0 rfl rfl rfl rfl (Nat.le_of_ble_eq_true rfl) dX0_rowsFrom_161 ?_
              refine tw_sub [2, 3, 4, 5, 6] (lv' := [(0, .ref (K 0)), (1, .int a1), (2, .int a2), (3, .int a3), (4, .int s6b)]) rfl ?_
              have hL := hk13 _ hf
              exact hL
    · clear q36
      refine tw_aload_n X dX0_rowsFrom_28 rfl 0 rfl ?_
      refine tw_dup X dX0_rowsFrom_29 rfl ?_
      refine kgX0_429_0 X  dX0_rowsFrom_30 ?_
      refine tw_iconst (v := 1) X dX0_rowsFrom_33 rfl ?_
      refine tw_iadd X dX0_rowsFrom_34 ?_
      obtain ⟨g26, hg26, hf⟩ := bnd hf
      refine kpX0_429_0 X hg26 dX0_rowsFrom_35 ?_
      refine tw_aload_n X dX0_rowsFrom_38 rfl 0 rfl ?_
      refine kgX0_432_0 X  dX0_rowsFrom_39 ?_
      refine jn_walk (P := fun j27 : Unit => TW p l e (rom (226 + 1 * (d + 1)) (5210 + 26 * (d + 1))) s m args below meth c (MQ below (QV D vwCl A (kW K δ sr ρ dy) z) args s 0 0 A) D vwCl A (kW K δ sr ρ dy) 7 0 0 g26 54 [(0, .ref (K 0)), (2, .int a2), (3, .int a3)] []) hf ?_ ?_
      · intro j27 hf
        refine tw_aload_n X dX0_rowsFrom_54 rfl 0 rfl ?_
        refine tw_iload_n X dX0_rowsFrom_55 rfl 2 rfl ?_
        obtain ⟨g29, hg29, hf⟩ := bnd hf
        refine kpX0_432_0 X hg29 dX0_rowsFrom_56 ?_
        refine tw_aload_n X dX0_rowsFrom_59 rfl 0 rfl ?_
        refine tw_iload_n X dX0_rowsFrom_60 rfl 1 rfl ?_
        obtain ⟨g30, hg30, hf⟩ := bnd hf
        refine kpX0_435_0 X hg30 dX0_rowsFrom_61 ?_
        refine tw_aload_n X dX0_rowsFrom_64 rfl 0 rfl ?_
        refine kgX0_115_0 X  dX0_rowsFrom_65 ?_
        refine tw_iconst (v := 0) X dX0_rowsFrom_68 rfl ?_
        refine tw_aload_n X dX0_rowsFrom_69 rfl 0 rfl ?_
        refine kgX0_118_0 X  dX0_rowsFrom_70 ?_
        refine tw_iconst (v := 0) X dX0_rowsFrom_73 rfl ?_
        refine tw_iload_n X dX0_rowsFrom_74 rfl 1 rfl ?_
        obtain ⟨g31, hg31, hf⟩ := bnd hf
        refine kcX0_17_18 X hg31 (rom_40 (by omega) (by omega)) (Nat.le_of_ble_eq_true rfl) dX0_rowsFrom_75 ?_
        exact tw_vret X hr (Option.some.inj hf) dX0_rowsFrom_78
      · intro zz35 hf hk28
        refine tw_if_lt (tgt := 54) X dX0_rowsFrom_42 rfl hf (fun q34 hf => ?_) (fun q34 hf => ?_)
        · clear q34
          refine tw_sub [0, 2, 3] (lv' := [(0, .ref (K 0)), (2, .int a2), (3, .int a3)]) rfl ?_
          have hL := leafL hf hk28
          exact hL
        · clear q34
          refine tw_iload_n X dX0_rowsFrom_45 rfl 3 rfl ?_
          refine tw_aload_n X dX0_rowsFrom_46 rfl 0 rfl ?_
          refine kgX0_432_0 X  dX0_rowsFrom_47 ?_
          refine tw_icmp_lt (tgt := 54) X dX0_rowsFrom_50 rfl hf (fun q33 hf => ?_) (fun q33 hf => ?_)
          · clear q33
            refine tw_sub [0, 2, 3] (lv' := [(0, .ref (K 0)), (2, .int a2), (3, .int a3)]) rfl ?_
            have hL := leafL hf hk28
            exact hL
          · clear q33
            have hf32 := leafR hf hk28
            exact tw_vret X hr (Option.some.inj hf32) dX0_rowsFrom_53
noncomputable def kF_findRows (E : EE) (g : St) (a1 : Int32) : Option (St) :=
  (pf g 0 19 (0 : Int32)).bind fun g1 =>
  (pf g1 0 20 (0 : Int32)).bind fun g2 =>
  (pf g2 0 21 (-1 : Int32)).bind fun g3 =>
  (pf g3 0 18 (0 : Int32)).bind fun g4 =>
  (kF_rowsFrom E 8 g4 a1 (0 : Int32) (0 : Int32)).bind fun g5 =>
  some g5
set_option maxHeartbeats 4000000 in
theorem kC_findRows {l : Launch} {D : va_G} {A : Nat → Prop} {K : Nat → Nat} {δ : Nat → ClassId} {sr ρ : Rf} {dy : va_W} {E : EE} (hE : EOK δ ρ dy E) {g : St} {a1 : Int32} {z : St} (hf : kF_findRows E g a1 = some z) : Ct l yX0_findRows cX0_findRows 2 none 235 5444 D vwCl (kT δ) A (kW K δ sr ρ dy) [.ref (K 0), .int a1] g (QV D vwCl A (kW K δ sr ρ dy) z) := by
  unfold kF_findRows at hf
  refine ct_intro (own := RX0) (lv0 := [(0, .ref (K 0)), (1, .int a1)]) (by decide) rfl (Nat.le_of_ble_eq_true rfl) rfl ?_
  intro p e s m args below meth c X hr
  refine tw_aload_n X dX0_findRows_0 rfl 0 rfl ?_
  refine tw_iconst (v := 0) X dX0_findRows_1 rfl ?_
  obtain ⟨g1, hg1, hf⟩ := bnd hf
  refine kpX0_429_0 X hg1 dX0_findRows_2 ?_
  refine tw_aload_n X dX0_findRows_5 rfl 0 rfl ?_
  refine tw_iconst (v := 0) X dX0_findRows_6 rfl ?_
  obtain ⟨g2, hg2, hf⟩ := bnd hf
  refine kpX0_426_0 X hg2 dX0_findRows_7 ?_
  refine tw_aload_n X dX0_findRows_10 rfl 0 rfl ?_
  refine tw_iconst (v := -1) X dX0_findRows_11 rfl ?_
  obtain ⟨g3, hg3, hf⟩ := bnd hf
  refine kpX0_432_0 X hg3 dX0_findRows_12 ?_
  refine tw_aload_n X dX0_findRows_15 rfl 0 rfl ?_
  refine tw_iconst (v := 0) X dX0_findRows_16 rfl ?_
  obtain ⟨g4, hg4, hf⟩ := bnd hf
  refine kpX0_435_0 X hg4 dX0_findRows_17 ?_
  refine tw_aload_n X dX0_findRows_20 rfl 0 rfl ?_
  refine tw_iload_n X dX0_findRows_21 rfl 1 rfl ?_
  refine tw_iconst (v := 0) X dX0_findRows_22 rfl ?_
  refine tw_iconst (v := 0) X dX0_findRows_23 rfl ?_
  obtain ⟨g5, hg5, hf⟩ := bnd hf
  refine tw_callVv (As := [.int a1, .int (0 : Int32), .int (0 : Int32)]) (st := []) X (kC_rowsFrom hE 8 _ _ _ _ _ hg5) kGX0_438 kI_X0_rowsFrom ⟨Nat.le_of_ble_eq_true rfl, Nat.le_of_ble_eq_true rfl⟩ ⟨Nat.zero_le _, Nat.zero_le _⟩ 0 rfl rfl rfl rfl (Nat.le_of_ble_eq_true rfl) dX0_findRows_24 ?_
  exact tw_vret X hr (Option.some.inj hf) dX0_findRows_27
noncomputable def kF_ways (E : EE) (g : St) (a1 : Int32) : Option (Int32 × St) :=
  if (kF_isIn a1 (0 : Int32) (6 : Int32)) = 0 then
    some ((-1 : Int32), g)
  else
    (kF_findRows E g a1).bind fun g2 =>
    some ((g2 0 19), g2)
set_option maxHeartbeats 4000000 in
theorem kC_ways {l : Launch} {D : va_G} {A : Nat → Prop} {K : Nat → Nat} {δ : Nat → ClassId} {sr ρ : Rf} {dy : va_W} {E : EE} (hE : EOK δ ρ dy E) {g : St} {a1 : Int32} {z : Int32 × St} (hf : kF_ways E g a1 = some z) : Ct l yX0_ways cX0_ways 2 (some .int) 236 5465 D vwCl (kT δ) A (kW K δ sr ρ dy) [.ref (K 0), .int a1] g (QI D vwCl A (kW K δ sr ρ dy) z.1 z.2) := by
  unfold kF_ways at hf
  refine ct_intro (own := RX0) (lv0 := [(0, .ref (K 0)), (1, .int a1)]) (by decide) rfl (Nat.le_of_ble_eq_true rfl) rfl ?_
  intro p e s m args below meth c X hr
  refine tw_iload_n X dX0_ways_0 rfl 1 rfl ?_
  refine tw_iconst (v := 0) X dX0_ways_1 rfl ?_
  refine tw_bipush (v := 6) X dX0_ways_2 rfl ?_
  refine tw_callSz (As := [.int a1, .int (0 : Int32), .int (6 : Int32)]) (st := []) X (kC_isIn (g := g) a1 (0 : Int32) (6 : Int32)) kGX0_149 kI_X0_isIn ⟨Nat.le_of_ble_eq_true rfl, Nat.le_of_ble_eq_true rfl⟩ ⟨Nat.zero_le _, Nat.zero_le _⟩ rfl rfl (Nat.le_of_ble_eq_true rfl) dX0_ways_4 ?_
  intro hb1
  refine tw_if_ne (tgt := 12) X dX0_ways_7 rfl hf (fun q3 hf => ?_) (fun q3 hf => ?_)
  · clear q3
    refine tw_iconst (v := -1) X dX0_ways_10 rfl ?_
    exact tw_iret X hr (prj1 hf) (prj2 hf) dX0_ways_11
  · clear q3
    refine tw_aload_n X dX0_ways_12 rfl 0 rfl ?_
    refine tw_iload_n X dX0_ways_13 rfl 1 rfl ?_
    obtain ⟨g2, hg2, hf⟩ := bnd hf
    refine tw_callVv (As := [.int a1]) (st := []) X (kC_findRows hE hg2) kGX0_441 kI_X0_findRows ⟨Nat.le_of_ble_eq_true rfl, Nat.le_of_ble_eq_true rfl⟩ ⟨Nat.zero_le _, Nat.zero_le _⟩ 0 rfl rfl rfl rfl (Nat.le_of_ble_eq_true rfl) dX0_ways_14 ?_
    refine tw_aload_n X dX0_ways_17 rfl 0 rfl ?_
    refine kgX0_429_0 X  dX0_ways_18 ?_
    exact tw_iret X hr (prj1 hf) (prj2 hf) dX0_ways_21
noncomputable def kF_most (E : EE) (g : St) (a1 : Int32) : Option (Int32 × St) :=
  if (kF_isIn a1 (0 : Int32) (6 : Int32)) = 0 then
    some ((-1 : Int32), g)
  else
    (kF_findRows E g a1).bind fun g2 =>
    some ((g2 0 20), g2)
set_option maxHeartbeats 4000000 in
theorem kC_most {l : Launch} {D : va_G} {A : Nat → Prop} {K : Nat → Nat} {δ : Nat → ClassId} {sr ρ : Rf} {dy : va_W} {E : EE} (hE : EOK δ ρ dy E) {g : St} {a1 : Int32} {z : Int32 × St} (hf : kF_most E g a1 = some z) : Ct l yX0_most cX0_most 2 (some .int) 236 5465 D vwCl (kT δ) A (kW K δ sr ρ dy) [.ref (K 0), .int a1] g (QI D vwCl A (kW K δ sr ρ dy) z.1 z.2) := by
  unfold kF_most at hf
  refine ct_intro (own := RX0) (lv0 := [(0, .ref (K 0)), (1, .int a1)]) (by decide) rfl (Nat.le_of_ble_eq_true rfl) rfl ?_
  intro p e s m args below meth c X hr
  refine tw_iload_n X dX0_most_0 rfl 1 rfl ?_
  refine tw_iconst (v := 0) X dX0_most_1 rfl ?_
  refine tw_bipush (v := 6) X dX0_most_2 rfl ?_
  refine tw_callSz (As := [.int a1, .int (0 : Int32), .int (6 : Int32)]) (st := []) X (kC_isIn (g := g) a1 (0 : Int32) (6 : Int32)) kGX0_149 kI_X0_isIn ⟨Nat.le_of_ble_eq_true rfl, Nat.le_of_ble_eq_true rfl⟩ ⟨Nat.zero_le _, Nat.zero_le _⟩ rfl rfl (Nat.le_of_ble_eq_true rfl) dX0_most_4 ?_
  intro hb1
  refine tw_if_ne (tgt := 12) X dX0_most_7 rfl hf (fun q3 hf => ?_) (fun q3 hf => ?_)
  · clear q3
    refine tw_iconst (v := -1) X dX0_most_10 rfl ?_
    exact tw_iret X hr (prj1 hf) (prj2 hf) dX0_most_11
  · clear q3
    refine tw_aload_n X dX0_most_12 rfl 0 rfl ?_
    refine tw_iload_n X dX0_most_13 rfl 1 rfl ?_
    obtain ⟨g2, hg2, hf⟩ := bnd hf
    refine tw_callVv (As := [.int a1]) (st := []) X (kC_findRows hE hg2) kGX0_441 kI_X0_findRows ⟨Nat.le_of_ble_eq_true rfl, Nat.le_of_ble_eq_true rfl⟩ ⟨Nat.zero_le _, Nat.zero_le _⟩ 0 rfl rfl rfl rfl (Nat.le_of_ble_eq_true rfl) dX0_most_14 ?_
    refine tw_aload_n X dX0_most_17 rfl 0 rfl ?_
    refine kgX0_426_0 X  dX0_most_18 ?_
    exact tw_iret X hr (prj1 hf) (prj2 hf) dX0_most_21
noncomputable def kF_cheapest (E : EE) (g : St) (a1 : Int32) : Option (Int32 × St) :=
  if (kF_isIn a1 (0 : Int32) (6 : Int32)) = 0 then
    some ((-1 : Int32), g)
  else
    (kF_findRows E g a1).bind fun g2 =>
    if 0 ≤ (g2 0 21) then
      some ((g2 0 21), g2)
    else
      some ((-3 : Int32), g2)
set_option maxHeartbeats 4000000 in
theorem kC_cheapest {l : Launch} {D : va_G} {A : Nat → Prop} {K : Nat → Nat} {δ : Nat → ClassId} {sr ρ : Rf} {dy : va_W} {E : EE} (hE : EOK δ ρ dy E) {g : St} {a1 : Int32} {z : Int32 × St} (hf : kF_cheapest E g a1 = some z) : Ct l yX0_cheapest cX0_cheapest 2 (some .int) 236 5465 D vwCl (kT δ) A (kW K δ sr ρ dy) [.ref (K 0), .int a1] g (QI D vwCl A (kW K δ sr ρ dy) z.1 z.2) := by
  unfold kF_cheapest at hf
  refine ct_intro (own := RX0) (lv0 := [(0, .ref (K 0)), (1, .int a1)]) (by decide) rfl (Nat.le_of_ble_eq_true rfl) rfl ?_
  intro p e s m args below meth c X hr
  refine tw_iload_n X dX0_cheapest_0 rfl 1 rfl ?_
  refine tw_iconst (v := 0) X dX0_cheapest_1 rfl ?_
  refine tw_bipush (v := 6) X dX0_cheapest_2 rfl ?_
  refine tw_callSz (As := [.int a1, .int (0 : Int32), .int (6 : Int32)]) (st := []) X (kC_isIn (g := g) a1 (0 : Int32) (6 : Int32)) kGX0_149 kI_X0_isIn ⟨Nat.le_of_ble_eq_true rfl, Nat.le_of_ble_eq_true rfl⟩ ⟨Nat.zero_le _, Nat.zero_le _⟩ rfl rfl (Nat.le_of_ble_eq_true rfl) dX0_cheapest_4 ?_
  intro hb1
  refine tw_if_ne (tgt := 12) X dX0_cheapest_7 rfl hf (fun q4 hf => ?_) (fun q4 hf => ?_)
  · clear q4
    refine tw_iconst (v := -1) X dX0_cheapest_10 rfl ?_
    exact tw_iret X hr (prj1 hf) (prj2 hf) dX0_cheapest_11
  · clear q4
    refine tw_aload_n X dX0_cheapest_12 rfl 0 rfl ?_
    refine tw_iload_n X dX0_cheapest_13 rfl 1 rfl ?_
    obtain ⟨g2, hg2, hf⟩ := bnd hf
    refine tw_callVv (As := [.int a1]) (st := []) X (kC_findRows hE hg2) kGX0_441 kI_X0_findRows ⟨Nat.le_of_ble_eq_true rfl, Nat.le_of_ble_eq_true rfl⟩ ⟨Nat.zero_le _, Nat.zero_le _⟩ 0 rfl rfl rfl rfl (Nat.le_of_ble_eq_true rfl) dX0_cheapest_14 ?_
    refine tw_aload_n X dX0_cheapest_17 rfl 0 rfl ?_
    refine kgX0_432_0 X  dX0_cheapest_18 ?_
    refine tw_if_ge (tgt := 29) X dX0_cheapest_21 rfl hf (fun q3 hf => ?_) (fun q3 hf => ?_)
    · clear q3
      refine tw_aload_n X dX0_cheapest_29 rfl 0 rfl ?_
      refine kgX0_432_0 X  dX0_cheapest_30 ?_
      exact tw_iret X hr (prj1 hf) (prj2 hf) dX0_cheapest_33
    · clear q3
      refine tw_bipush (v := -3) X dX0_cheapest_24 rfl ?_
      refine tw_goto (tgt := 33) X dX0_cheapest_26 rfl ?_
      exact tw_iret X hr (prj1 hf) (prj2 hf) dX0_cheapest_33
noncomputable def kF_cheaply (E : EE) (g : St) (a1 : Int32) (a2 : Int32) : Option (Int32 × St) :=
  if (kF_isIn a1 (0 : Int32) (6 : Int32)) = 0 then
    some ((-1 : Int32), g)
  else
    if (kF_isIn a2 (0 : Int32) (5 : Int32)) = 0 then
      some ((-1 : Int32), g)
    else
      (kF_findRows E g a1).bind fun g3 =>
      if (g3 0 18) ≤ a2 then
        some ((-3 : Int32), g3)
      else
        (rd (g3 18) 6 a2).bind fun x4 =>
        some (x4, g3)
set_option maxHeartbeats 4000000 in
theorem kC_cheaply {l : Launch} {D : va_G} {A : Nat → Prop} {K : Nat → Nat} {δ : Nat → ClassId} {sr ρ : Rf} {dy : va_W} {E : EE} (hE : EOK δ ρ dy E) {g : St} {a1 : Int32} {a2 : Int32} {z : Int32 × St} (hf : kF_cheaply E g a1 a2 = some z) : Ct l yX0_cheaply cX0_cheaply 3 (some .int) 236 5465 D vwCl (kT δ) A (kW K δ sr ρ dy) [.ref (K 0), .int a1, .int a2] g (QI D vwCl A (kW K δ sr ρ dy) z.1 z.2) := by
  unfold kF_cheaply at hf
  refine ct_intro (own := RX0) (lv0 := [(0, .ref (K 0)), (1, .int a1), (2, .int a2)]) (by decide) rfl (Nat.le_of_ble_eq_true rfl) rfl ?_
  intro p e s m args below meth c X hr
  refine tw_iload_n X dX0_cheaply_0 rfl 1 rfl ?_
  refine tw_iconst (v := 0) X dX0_cheaply_1 rfl ?_
  refine tw_bipush (v := 6) X dX0_cheaply_2 rfl ?_
  refine tw_callSz (As := [.int a1, .int (0 : Int32), .int (6 : Int32)]) (st := []) X (kC_isIn (g := g) a1 (0 : Int32) (6 : Int32)) kGX0_149 kI_X0_isIn ⟨Nat.le_of_ble_eq_true rfl, Nat.le_of_ble_eq_true rfl⟩ ⟨Nat.zero_le _, Nat.zero_le _⟩ rfl rfl (Nat.le_of_ble_eq_true rfl) dX0_cheaply_4 ?_
  intro hb1
  refine tw_if_eq (tgt := 19) X dX0_cheaply_7 rfl hf (fun q7 hf => ?_) (fun q7 hf => ?_)
  · clear q7
    refine tw_iconst (v := -1) X dX0_cheaply_19 rfl ?_
    exact tw_iret X hr (prj1 hf) (prj2 hf) dX0_cheaply_20
  · clear q7
    refine tw_iload_n X dX0_cheaply_10 rfl 2 rfl ?_
    refine tw_iconst (v := 0) X dX0_cheaply_11 rfl ?_
    refine tw_iconst (v := 5) X dX0_cheaply_12 rfl ?_
    refine tw_callSz (As := [.int a2, .int (0 : Int32), .int (5 : Int32)]) (st := []) X (kC_isIn (g := g) a2 (0 : Int32) (5 : Int32)) kGX0_149 kI_X0_isIn ⟨Nat.le_of_ble_eq_true rfl, Nat.le_of_ble_eq_true rfl⟩ ⟨Nat.zero_le _, Nat.zero_le _⟩ rfl rfl (Nat.le_of_ble_eq_true rfl) dX0_cheaply_13 ?_
    intro hb2
    refine tw_if_ne (tgt := 21) X dX0_cheaply_16 rfl hf (fun q6 hf => ?_) (fun q6 hf => ?_)
    · clear q6
      refine tw_iconst (v := -1) X dX0_cheaply_19 rfl ?_
      exact tw_iret X hr (prj1 hf) (prj2 hf) dX0_cheaply_20
    · clear q6
      refine tw_aload_n X dX0_cheaply_21 rfl 0 rfl ?_
      refine tw_iload_n X dX0_cheaply_22 rfl 1 rfl ?_
      obtain ⟨g3, hg3, hf⟩ := bnd hf
      refine tw_callVv (As := [.int a1]) (st := []) X (kC_findRows hE hg3) kGX0_441 kI_X0_findRows ⟨Nat.le_of_ble_eq_true rfl, Nat.le_of_ble_eq_true rfl⟩ ⟨Nat.zero_le _, Nat.zero_le _⟩ 0 rfl rfl rfl rfl (Nat.le_of_ble_eq_true rfl) dX0_cheaply_23 ?_
      refine tw_iload_n X dX0_cheaply_26 rfl 2 rfl ?_
      refine tw_aload_n X dX0_cheaply_27 rfl 0 rfl ?_
      refine kgX0_435_0 X  dX0_cheaply_28 ?_
      refine tw_icmp_ge (tgt := 43) X dX0_cheaply_31 rfl hf (fun q5 hf => ?_) (fun q5 hf => ?_)
      · clear q5
        refine tw_bipush (v := -3) X dX0_cheaply_43 rfl ?_
        exact tw_iret X hr (prj1 hf) (prj2 hf) dX0_cheaply_45
      · clear q5
        refine tw_aload_n X dX0_cheaply_34 rfl 0 rfl ?_
        refine kgX0_118_0 X  dX0_cheaply_35 ?_
        refine tw_iload_n X dX0_cheaply_38 rfl 2 rfl ?_
        obtain ⟨x4, hx4, hf⟩ := bnd hf
        refine klX0_18 X hx4 dX0_cheaply_39 ?_
        refine tw_goto (tgt := 45) X dX0_cheaply_40 rfl ?_
        exact tw_iret X hr (prj1 hf) (prj2 hf) dX0_cheaply_45
noncomputable def kF_bars (E : EE) (g : St) : Option (Int32 × St) :=
  (kF_fewestOf E g (6 : Int32)).bind (un2 fun y1a y1b =>
  if y1a < 0 then
    (pf y1b 0 15 (0 : Int32)).bind fun g2 =>
    Option.bind (α := St × Int32) (β := Int32 × St)
      (iter (L := St × Int32) (T := St × Int32) (un2 fun s6a s6b => 
        if (s6a 40 0) ≤ (s6a 0 15) then
          some (.inr (s6a, s6b))
        else
          (kF_fewestOf E s6a (6 : Int32)).bind (un2 fun y9a y9b =>
          Option.bind (α := Int32) (β := ((St × Int32) ⊕ (St × Int32)))
            (if y9a < 0 then
              some (0 : Int32)
            else
              some ((1 : Int32) <<< ((y9b 0 15) &&& 31)))
            (fun j10 => (pf y9b 0 15 ((y9b 0 15) + (1 : Int32))).bind fun g12 =>
            some (.inl (g12, (s6b ||| j10)))))) (g2, (0 : Int32)))
      (un2 fun j3a j3b => (pf j3a 0 15 (-1 : Int32)).bind fun g5 =>
      some (j3b, g5))
  else
    some ((0 : Int32), y1b))
set_option maxHeartbeats 4000000 in
theorem kC_bars {l : Launch} {D : va_G} {A : Nat → Prop} {K : Nat → Nat} {δ : Nat → ClassId} {sr ρ : Rf} {dy : va_W} {E : EE} (hE : EOK δ ρ dy E) {g : St} {z : Int32 × St} (hf : kF_bars E g = some z) : CtW l yX0_bars cX0_bars 4 (some .int) [((13 : Nat), (69 : Nat), (76 : Nat), (0 : Nat))] 236 5466 D vwCl (kT δ) A (kW K δ sr ρ dy) [.ref (K 0)] g (QI D vwCl A (kW K δ sr ρ dy) z.1 z.2) := by
  unfold kF_bars at hf
  refine ctW_intro (own := RX0) (lv0 := [(0, .ref (K 0))]) (by decide) rfl (Nat.le_of_ble_eq_true rfl) rfl ?_
  intro p e s m args below meth c X hr
  refine tw_aload_n X dX0_bars_0 rfl 0 rfl ?_
  refine tw_bipush (v := 6) X dX0_bars_1 rfl ?_
  obtain ⟨⟨y1a, y1b⟩, hy1, hf⟩ := bnd hf
  dsimp only [un2] at hf
  refine tw_callVi (As := [.int (6 : Int32)]) (st := []) X (kC_fewestOf hE hy1) kGX0_423 kI_X0_fewestOf ⟨Nat.le_of_ble_eq_true rfl, Nat.le_of_ble_eq_true rfl⟩ ⟨Nat.zero_le _, Nat.zero_le _⟩ 0 rfl rfl rfl rfl (Nat.le_of_ble_eq_true rfl) dX0_bars_3 ?_
  refine tw_if_lt (tgt := 11) X dX0_bars_6 rfl hf (fun q18 hf => ?_) (fun q18 hf => ?_)
  · clear q18
    refine tw_iconst (v := 0) X dX0_bars_11 rfl ?_
    refine tw_istore_n (lv' := [(1, .int (0 : Int32)), (0, .ref (K 0))]) X dX0_bars_12 rfl (by decide) rfl ?_
    refine tw_aload_n X dX0_bars_13 rfl 1 rfl ?_
    refine tw_iconst (v := 0) X dX0_bars_14 rfl ?_
    obtain ⟨g2, hg2, hf⟩ := bnd hf
    refine kpX0_111_0 X hg2 dX0_bars_15 ?_
    refine bj_walk (P := un2 fun j3a j3b => TW p l e (rom 236 5466) s m args below meth c (MQ below (QI D vwCl A (kW K δ sr ρ dy) z.1 z.2) args s 0 0 A) D vwCl A (kW K δ sr ρ dy) 4 0 0 j3a 67 [(0, .ref (K 0)), (1, .int j3b)] []) hf ?_ ?_
    · rintro ⟨j3a, j3b⟩ hf
      dsimp only [un2] at hf ⊢
      refine tw_iload_n X dX0_bars_67 rfl 1 rfl ?_
      refine tw_istore_n (lv' := [(2, .int j3b), (0, .ref (K 0)), (1, .int j3b)]) X dX0_bars_68 rfl (by decide) rfl ?_
      refine tw_aload_n X dX0_bars_69 rfl 1 rfl ?_
      refine tw_iconst (v := -1) X dX0_bars_70 rfl ?_
      obtain ⟨g5, hg5, hf⟩ := bnd hf
      refine kpX0_111_0 X hg5 dX0_bars_71 ?_
      refine tw_iload_n X dX0_bars_74 rfl 0 rfl ?_
      exact tw_iret X hr (prj1 hf) (prj2 hf) dX0_bars_75
    · intro zz17 hf hk4
      refine tw_sub [1, 0] (lv' := [(0, .ref (K 0)), (1, .int (0 : Int32))]) rfl ?_
      refine it_walk (P := un2 fun s6a s6b => TW p l e (rom 236 5466) s m args below meth c (MQ below (QI D vwCl A (kW K δ sr ρ dy) z.1 z.2) args s 0 0 A) D vwCl A (kW K δ sr ρ dy) 4 0 0 s6a 18 [(0, .ref (K 0)), (1, .int s6b)] []) hf ?_
      rintro ⟨s6a, s6b⟩ zz16 hf hl7
      dsimp only [un2] at hf ⊢
      refine tw_aload_n X dX0_bars_18 rfl 0 rfl ?_
      refine kgX0_111_0 X  dX0_bars_19 ?_
      refine tw_aload_n X dX0_bars_22 rfl 0 rfl ?_
      refine kgX0_47_0 X  dX0_bars_23 ?_
      refine kgX0_147_3 X  dX0_bars_26 ?_
      refine tw_icmp_ge (tgt := 67) X dX0_bars_29 rfl hf (fun q15 hf => ?_) (fun q15 hf => ?_)
      · clear q15
        have hf8 := leafR hf hl7
        have hL := hk4 _ hf8
        exact hL
      · clear q15
        refine tw_iload_n X dX0_bars_32 rfl 1 rfl ?_
        refine tw_aload_n X dX0_bars_33 rfl 0 rfl ?_
        refine tw_bipush (v := 6) X dX0_bars_34 rfl ?_
        obtain ⟨⟨y9a, y9b⟩, hy9, hf⟩ := bnd hf
        dsimp only [un2] at hf
        refine tw_callVi (As := [.int (6 : Int32)]) (st := [.int s6b]) X (kC_fewestOf hE hy9) kGX0_423 kI_X0_fewestOf ⟨Nat.le_of_ble_eq_true rfl, Nat.le_of_ble_eq_true rfl⟩ ⟨Nat.zero_le _, Nat.zero_le _⟩ 0 rfl rfl rfl rfl (Nat.le_of_ble_eq_true rfl) dX0_bars_36 ?_
        refine bj_walk (P := fun j10 : Int32 => TW p l e (rom 236 5466) s m args below meth c (MQ below (QI D vwCl A (kW K δ sr ρ dy) z.1 z.2) args s 0 0 A) D vwCl A (kW K δ sr ρ dy) 4 0 0 y9b 52 [(0, .ref (K 0))] [.int j10, .int s6b]) hf ?_ ?_
        · intro j10 hf
          refine tw_ior X dX0_bars_52 ?_
          refine tw_istore_n (lv' := [(1, .int (s6b ||| j10)), (0, .ref (K 0))]) X dX0_bars_53 rfl (by decide) rfl ?_
          refine tw_aload_n X dX0_bars_54 rfl 1 rfl ?_
          refine tw_dup X dX0_bars_55 rfl ?_
          refine kgX0_111_0 X  dX0_bars_56 ?_
          refine tw_iconst (v := 1) X dX0_bars_59 rfl ?_
          refine tw_iadd X dX0_bars_60 ?_
          obtain ⟨g12, hg12, hf⟩ := bnd hf
          refine kpX0_111_0 X hg12 dX0_bars_61 ?_
          refine tw_goto (tgt := 18) X dX0_bars_64 rfl ?_
          refine tw_sub [1, 0] (lv' := [(0, .ref (K 0)), (1, .int (s6b ||| j10))]) rfl ?_
          have hL := leafL hf hl7
          exact hL
        · intro zz14 hf hk11
          refine tw_if_lt (tgt := 51) X dX0_bars_39 rfl hf (fun q13 hf => ?_) (fun q13 hf => ?_)
          · clear q13
            refine tw_iconst (v := 0) X dX0_bars_51 rfl ?_
            refine tw_sub [0] (lv' := [(0, .ref (K 0))]) rfl ?_
            have hL := hk11 _ hf
            exact hL
          · clear q13
            refine tw_iconst (v := 1) X dX0_bars_42 rfl ?_
            refine tw_aload_n X dX0_bars_43 rfl 0 rfl ?_
            refine kgX0_111_0 X  dX0_bars_44 ?_
            refine tw_ishl X dX0_bars_47 ?_
            refine tw_goto (tgt := 52) X dX0_bars_48 rfl ?_
            refine tw_sub [0] (lv' := [(0, .ref (K 0))]) rfl ?_
            have hL := hk11 _ hf
            exact hL
  · clear q18
    refine tw_iconst (v := 0) X dX0_bars_9 rfl ?_
    exact tw_iret X hr (prj1 hf) (prj2 hf) dX0_bars_10
noncomputable def kF_jars (E : EE) (g : St) : Option (Int32 × St) :=
  (kF_findRows E g (6 : Int32)).bind fun g1 =>
  iter (L := St × Int32 × Int32 × Int32) (T := Int32 × St) (un4 fun s2a s2b s2c s2d => 
    if (8 : Int32) ≤ s2d then
      some (.inr (s2c, s2a))
    else
      (rd (s2a 51) 8 s2d).bind fun x5 =>
      (wr s2a 51 8 s2d (x5 + (1 : Int32))).bind fun g6 =>
      (kF_findRows E g6 (6 : Int32)).bind fun g7 =>
      (rd (g7 51) 8 s2d).bind fun x8 =>
      (wr g7 51 8 s2d (x8 - (1 : Int32))).bind fun g9 =>
      if s2b < (g9 0 20) then
        some (.inl (g9, (g9 0 20), s2d, (s2d + (1 : Int32))))
      else
        some (.inl (g9, s2b, s2c, (s2d + (1 : Int32))))) (g1, (g1 0 20), (-3 : Int32), (0 : Int32))
set_option maxHeartbeats 4000000 in
theorem kC_jars {l : Launch} {D : va_G} {A : Nat → Prop} {K : Nat → Nat} {δ : Nat → ClassId} {sr ρ : Rf} {dy : va_W} {E : EE} (hE : EOK δ ρ dy E) {g : St} {z : Int32 × St} (hf : kF_jars E g = some z) : Ct l yX0_jars cX0_jars 4 (some .int) 236 5465 D vwCl (kT δ) A (kW K δ sr ρ dy) [.ref (K 0)] g (QI D vwCl A (kW K δ sr ρ dy) z.1 z.2) := by
  unfold kF_jars at hf
  refine ct_intro (own := RX0) (lv0 := [(0, .ref (K 0))]) (by decide) rfl (Nat.le_of_ble_eq_true rfl) rfl ?_
  intro p e s m args below meth c X hr
  refine tw_aload_n X dX0_jars_0 rfl 0 rfl ?_
  refine tw_bipush (v := 6) X dX0_jars_1 rfl ?_
  obtain ⟨g1, hg1, hf⟩ := bnd hf
  refine tw_callVv (As := [.int (6 : Int32)]) (st := []) X (kC_findRows hE hg1) kGX0_441 kI_X0_findRows ⟨Nat.le_of_ble_eq_true rfl, Nat.le_of_ble_eq_true rfl⟩ ⟨Nat.zero_le _, Nat.zero_le _⟩ 0 rfl rfl rfl rfl (Nat.le_of_ble_eq_true rfl) dX0_jars_3 ?_
  refine tw_aload_n X dX0_jars_6 rfl 0 rfl ?_
  refine kgX0_426_0 X  dX0_jars_7 ?_
  refine tw_istore_n (lv' := [(1, .int (g1 0 20)), (0, .ref (K 0))]) X dX0_jars_10 rfl (by decide) rfl ?_
  refine tw_bipush (v := -3) X dX0_jars_11 rfl ?_
  refine tw_istore_n (lv' := [(2, .int (-3 : Int32)), (1, .int (g1 0 20)), (0, .ref (K 0))]) X dX0_jars_13 rfl (by decide) rfl ?_
  refine tw_iconst (v := 0) X dX0_jars_14 rfl ?_
  refine tw_istore_n (lv' := [(3, .int (0 : Int32)), (2, .int (-3 : Int32)), (1, .int (g1 0 20)), (0, .ref (K 0))]) X dX0_jars_15 rfl (by decide) rfl ?_
  refine tw_sub [3, 2, 1, 0] (lv' := [(0, .ref (K 0)), (1, .int (g1 0 20)), (2, .int (-3 : Int32)), (3, .int (0 : Int32))]) rfl ?_
  refine it_walk (P := un4 fun s2a s2b s2c s2d => TW p l e (rom 236 5465) s m args below meth c (MQ below (QI D vwCl A (kW K δ sr ρ dy) z.1 z.2) args s 0 0 A) D vwCl A (kW K δ sr ρ dy) 4 0 0 s2a 16 [(0, .ref (K 0)), (1, .int s2b), (2, .int s2c), (3, .int s2d)] []) hf ?_
  rintro ⟨s2a, s2b, s2c, s2d⟩ zz12 hf hl3
  dsimp only [un4] at hf ⊢
  refine tw_iload_n X dX0_jars_16 rfl 3 rfl ?_
  refine tw_bipush (v := 8) X dX0_jars_17 rfl ?_
  refine tw_icmp_ge (tgt := 78) X dX0_jars_19 rfl hf (fun q11 hf => ?_) (fun q11 hf => ?_)
  · clear q11
    refine tw_iload_n X dX0_jars_78 rfl 2 rfl ?_
    have hf4 := leafR hf hl3
    exact tw_iret X hr (prj1 hf4) (prj2 hf4) dX0_jars_79
  · clear q11
    refine tw_aload_n X dX0_jars_22 rfl 0 rfl ?_
    refine kgX0_47_0 X  dX0_jars_23 ?_
    refine kgX0_201_3 X  dX0_jars_26 ?_
    refine tw_iload_n X dX0_jars_29 rfl 3 rfl ?_
    refine tw_dup2_11 X dX0_jars_30 rfl rfl ?_
    obtain ⟨x5, hx5, hf⟩ := bnd hf
    refine klX0_51 X hx5 dX0_jars_31 ?_
    refine tw_iconst (v := 1) X dX0_jars_32 rfl ?_
    refine tw_iadd X dX0_jars_33 ?_
    obtain ⟨g6, hg6, hf⟩ := bnd hf
    refine ksX0_51 X hg6 dX0_jars_34 ?_
    refine tw_aload_n X dX0_jars_35 rfl 0 rfl ?_
    refine tw_bipush (v := 6) X dX0_jars_36 rfl ?_
    obtain ⟨g7, hg7, hf⟩ := bnd hf
    refine tw_callVv (As := [.int (6 : Int32)]) (st := []) X (kC_findRows hE hg7) kGX0_441 kI_X0_findRows ⟨Nat.le_of_ble_eq_true rfl, Nat.le_of_ble_eq_true rfl⟩ ⟨Nat.zero_le _, Nat.zero_le _⟩ 0 rfl rfl rfl rfl (Nat.le_of_ble_eq_true rfl) dX0_jars_38 ?_
    refine tw_aload_n X dX0_jars_41 rfl 0 rfl ?_
    refine kgX0_47_0 X  dX0_jars_42 ?_
    refine kgX0_201_3 X  dX0_jars_45 ?_
    refine tw_iload_n X dX0_jars_48 rfl 3 rfl ?_
    refine tw_dup2_11 X dX0_jars_49 rfl rfl ?_
    obtain ⟨x8, hx8, hf⟩ := bnd hf
    refine klX0_51 X hx8 dX0_jars_50 ?_
    refine tw_iconst (v := 1) X dX0_jars_51 rfl ?_
    refine tw_isub X dX0_jars_52 ?_
    obtain ⟨g9, hg9, hf⟩ := bnd hf
    refine ksX0_51 X hg9 dX0_jars_53 ?_
    refine tw_aload_n X dX0_jars_54 rfl 0 rfl ?_
    refine kgX0_426_0 X  dX0_jars_55 ?_
    refine tw_iload_n X dX0_jars_58 rfl 1 rfl ?_
    refine tw_icmp_gt (tgt := 65) X dX0_jars_59 rfl hf (fun q10 hf => ?_) (fun q10 hf => ?_)
    · clear q10
      refine tw_aload_n X dX0_jars_65 rfl 0 rfl ?_
      refine kgX0_426_0 X  dX0_jars_66 ?_
      refine tw_istore_n (lv' := [(1, .int (g9 0 20)), (0, .ref (K 0)), (2, .int s2c), (3, .int s2d)]) X dX0_jars_69 rfl (by decide) rfl ?_
      refine tw_iload_n X dX0_jars_70 rfl 3 rfl ?_
      refine tw_istore_n (lv' := [(2, .int s2d), (1, .int (g9 0 20)), (0, .ref (K 0)), (3, .int s2d)]) X dX0_jars_71 rfl (by decide) rfl ?_
      refine tw_iinc (q := 3) (v := (s2d + (1 : Int32))) (lv' := [(3, .int (s2d + (1 : Int32))), (2, .int s2d), (1, .int (g9 0 20)), (0, .ref (K 0))]) X dX0_jars_72 rfl rfl (by decide) rfl ?_
      refine tw_goto (tgt := 16) X dX0_jars_75 rfl ?_
      refine tw_sub [3, 2, 1, 0] (lv' := [(0, .ref (K 0)), (1, .int (g9 0 20)), (2, .int s2d), (3, .int (s2d + (1 : Int32)))]) rfl ?_
      have hL := leafL hf hl3
      exact hL
    · clear q10
      refine tw_goto (tgt := 72) X dX0_jars_62 rfl ?_
      refine tw_iinc (q := 3) (v := (s2d + (1 : Int32))) (lv' := [(3, .int (s2d + (1 : Int32))), (0, .ref (K 0)), (1, .int s2b), (2, .int s2c)]) X dX0_jars_72 rfl rfl (by decide) rfl ?_
      refine tw_goto (tgt := 16) X dX0_jars_75 rfl ?_
      refine tw_sub [1, 2, 3, 0] (lv' := [(0, .ref (K 0)), (1, .int s2b), (2, .int s2c), (3, .int (s2d + (1 : Int32)))]) rfl ?_
      have hL := leafL hf hl3
      exact hL
noncomputable def kF_feeFor (E : EE) (g : St) (a1 : Int32) : Option (Int32 × St) :=
  if (kF_isIn a1 (1 : Int32) (6 : Int32)) = 0 then
    some ((-1 : Int32), g)
  else
    (pf g 40 1 (50 : Int32)).bind fun g2 =>
    jn (S := St) (T := Int32 × St)
      (jn (S := St) (T := ((St) ⊕ (Int32 × St)))
        (iter (L := St) (T := ((St) ⊕ (((St) ⊕ (Int32 × St))))) (fun s10 => 
          if (s10 40 1) < 0 then
            some (.inr (.inr (.inl s10)))
          else
            (kF_fewestOf E s10 a1).bind (un2 fun y14a y14b =>
            if y14a < 0 then
              (pf y14b 40 1 ((y14b 40 1) - (1 : Int32))).bind fun g15 =>
              some (.inl g15)
            else
              some (.inr (.inl y14b)))) g2)
        (fun j6 => (pf j6 40 1 (g 40 1)).bind fun g8 =>
        some (.inr ((j6 40 1), g8))))
      (fun j3 => (pf j3 40 1 (g 40 1)).bind fun g5 =>
      some ((-3 : Int32), g5))
set_option maxHeartbeats 4000000 in
theorem kC_feeFor {l : Launch} {D : va_G} {A : Nat → Prop} {K : Nat → Nat} {δ : Nat → ClassId} {sr ρ : Rf} {dy : va_W} {E : EE} (hE : EOK δ ρ dy E) {g : St} {a1 : Int32} {z : Int32 × St} (hf : kF_feeFor E g a1 = some z) : CtW l yX0_feeFor cX0_feeFor 5 (some .int) [((20 : Nat), (55 : Nat), (94 : Nat), (0 : Nat)), ((65 : Nat), (84 : Nat), (94 : Nat), (0 : Nat)), ((94 : Nat), (96 : Nat), (94 : Nat), (0 : Nat))] 236 5466 D vwCl (kT δ) A (kW K δ sr ρ dy) [.ref (K 0), .int a1] g (QI D vwCl A (kW K δ sr ρ dy) z.1 z.2) := by
  unfold kF_feeFor at hf
  refine ctW_intro (own := RX0) (lv0 := [(0, .ref (K 0)), (1, .int a1)]) (by decide) rfl (Nat.le_of_ble_eq_true rfl) rfl ?_
  intro p e s m args below meth c X hr
  refine tw_iload_n X dX0_feeFor_0 rfl 1 rfl ?_
  refine tw_iconst (v := 1) X dX0_feeFor_1 rfl ?_
  refine tw_bipush (v := 6) X dX0_feeFor_2 rfl ?_
  refine tw_callSz (As := [.int a1, .int (1 : Int32), .int (6 : Int32)]) (st := []) X (kC_isIn (g := g) a1 (1 : Int32) (6 : Int32)) kGX0_149 kI_X0_isIn ⟨Nat.le_of_ble_eq_true rfl, Nat.le_of_ble_eq_true rfl⟩ ⟨Nat.zero_le _, Nat.zero_le _⟩ rfl rfl (Nat.le_of_ble_eq_true rfl) dX0_feeFor_4 ?_
  intro hb1
  refine tw_if_ne (tgt := 12) X dX0_feeFor_7 rfl hf (fun q22 hf => ?_) (fun q22 hf => ?_)
  · clear q22
    refine tw_iconst (v := -1) X dX0_feeFor_10 rfl ?_
    exact tw_iret X hr (prj1 hf) (prj2 hf) dX0_feeFor_11
  · clear q22
    refine tw_aload_n X dX0_feeFor_12 rfl 0 rfl ?_
    refine kgX0_47_0 X  dX0_feeFor_13 ?_
    refine kgX0_204_3 X  dX0_feeFor_16 ?_
    refine tw_istore_n (lv' := [(2, .int (g 40 1)), (0, .ref (K 0)), (1, .int a1)]) X dX0_feeFor_19 rfl (by decide) rfl ?_
    refine tw_aload_n X dX0_feeFor_20 rfl 1 rfl ?_
    refine kgX0_47_0 X  dX0_feeFor_21 ?_
    refine tw_bipush (v := 50) X dX0_feeFor_24 rfl ?_
    obtain ⟨g2, hg2, hf⟩ := bnd hf
    refine kpX0_204_3 X hg2 dX0_feeFor_26 ?_
    refine jn_walk (P := fun j3 : St => TW p l e (rom 236 5466) s m args below meth c (MQ below (QI D vwCl A (kW K δ sr ρ dy) z.1 z.2) args s 0 0 A) D vwCl A (kW K δ sr ρ dy) 5 0 0 j3 81 [(0, .ref (K 0)), (2, .int (g 40 1))] []) hf ?_ ?_
    · intro j3 hf
      refine tw_bipush (v := -3) X dX0_feeFor_81 rfl ?_
      refine tw_istore_n (lv' := [(3, .int (-3 : Int32)), (0, .ref (K 0)), (2, .int (g 40 1))]) X dX0_feeFor_83 rfl (by decide) rfl ?_
      refine tw_aload_n X dX0_feeFor_84 rfl 1 rfl ?_
      refine kgX0_47_0 X  dX0_feeFor_85 ?_
      refine tw_iload_n X dX0_feeFor_88 rfl 2 rfl ?_
      obtain ⟨g5, hg5, hf⟩ := bnd hf
      refine kpX0_204_3 X hg5 dX0_feeFor_89 ?_
      refine tw_iload_n X dX0_feeFor_92 rfl 0 rfl ?_
      exact tw_iret X hr (prj1 hf) (prj2 hf) dX0_feeFor_93
    · intro zz21 hf hk4
      refine jn_walk (P := fun j6 : St => TW p l e (rom 236 5466) s m args below meth c (MQ below (QI D vwCl A (kW K δ sr ρ dy) z.1 z.2) args s 0 0 A) D vwCl A (kW K δ sr ρ dy) 5 0 0 j6 47 [(0, .ref (K 0)), (2, .int (g 40 1))] []) hf ?_ ?_
      · intro j6 hf
        refine tw_aload_n X dX0_feeFor_47 rfl 0 rfl ?_
        refine kgX0_47_0 X  dX0_feeFor_48 ?_
        refine kgX0_204_3 X  dX0_feeFor_51 ?_
        refine tw_istore_n (lv' := [(3, .int (j6 40 1)), (0, .ref (K 0)), (2, .int (g 40 1))]) X dX0_feeFor_54 rfl (by decide) rfl ?_
        refine tw_aload_n X dX0_feeFor_55 rfl 1 rfl ?_
        refine kgX0_47_0 X  dX0_feeFor_56 ?_
        refine tw_iload_n X dX0_feeFor_59 rfl 2 rfl ?_
        obtain ⟨g8, hg8, hf⟩ := bnd hf
        refine kpX0_204_3 X hg8 dX0_feeFor_60 ?_
        refine tw_iload_n X dX0_feeFor_63 rfl 0 rfl ?_
        have hf9 := leafR hf hk4
        exact tw_iret X hr (prj1 hf9) (prj2 hf9) dX0_feeFor_64
      · intro zz20 hf hk7
        refine tw_sub [1, 2, 0] (lv' := [(0, .ref (K 0)), (1, .int a1), (2, .int (g 40 1))]) rfl ?_
        refine it_walk (P := fun s10 : St => TW p l e (rom 236 5466) s m args below meth c (MQ below (QI D vwCl A (kW K δ sr ρ dy) z.1 z.2) args s 0 0 A) D vwCl A (kW K δ sr ρ dy) 5 0 0 s10 29 [(0, .ref (K 0)), (1, .int a1), (2, .int (g 40 1))] []) hf ?_
        intro s10 zz19 hf hl11
        refine tw_aload_n X dX0_feeFor_29 rfl 0 rfl ?_
        refine kgX0_47_0 X  dX0_feeFor_30 ?_
        refine kgX0_204_3 X  dX0_feeFor_33 ?_
        refine tw_if_lt (tgt := 81) X dX0_feeFor_36 rfl hf (fun q18 hf => ?_) (fun q18 hf => ?_)
        · clear q18
          have hf12 := leafR hf hl11
          have hf13 := leafR hf12 hk7
          refine tw_sub [0, 2] (lv' := [(0, .ref (K 0)), (2, .int (g 40 1))]) rfl ?_
          have hL := leafL hf13 hk4
          exact hL
        · clear q18
          refine tw_aload_n X dX0_feeFor_39 rfl 0 rfl ?_
          refine tw_iload_n X dX0_feeFor_40 rfl 1 rfl ?_
          obtain ⟨⟨y14a, y14b⟩, hy14, hf⟩ := bnd hf
          dsimp only [un2] at hf
          refine tw_callVi (As := [.int a1]) (st := []) X (kC_fewestOf hE hy14) kGX0_423 kI_X0_fewestOf ⟨Nat.le_of_ble_eq_true rfl, Nat.le_of_ble_eq_true rfl⟩ ⟨Nat.zero_le _, Nat.zero_le _⟩ 0 rfl rfl rfl rfl (Nat.le_of_ble_eq_true rfl) dX0_feeFor_41 ?_
          refine tw_if_lt (tgt := 65) X dX0_feeFor_44 rfl hf (fun q17 hf => ?_) (fun q17 hf => ?_)
          · clear q17
            refine tw_aload_n X dX0_feeFor_65 rfl 0 rfl ?_
            refine kgX0_47_0 X  dX0_feeFor_66 ?_
            refine tw_dup X dX0_feeFor_69 rfl ?_
            refine kgX0_204_3 X  dX0_feeFor_70 ?_
            refine tw_iconst (v := 1) X dX0_feeFor_73 rfl ?_
            refine tw_isub X dX0_feeFor_74 ?_
            obtain ⟨g15, hg15, hf⟩ := bnd hf
            refine kpX0_204_3 X hg15 dX0_feeFor_75 ?_
            refine tw_goto (tgt := 29) X dX0_feeFor_78 rfl ?_
            have hL := leafL hf hl11
            exact hL
          · clear q17
            have hf16 := leafR hf hl11
            refine tw_sub [0, 2] (lv' := [(0, .ref (K 0)), (2, .int (g 40 1))]) rfl ?_
            have hL := leafL hf16 hk7
            exact hL
noncomputable def kF_ringsFrom (E : EE) : Nat → St → Int32 → Int32 → Int32 → Option (St)
  | 0 => fun _ _ _ _ => none
  | d + 1 => fun g a1 a2 a3 => let rc := kF_ringsFrom E d
  (rd (g 23) 6 (a1 - (1 : Int32))).bind fun x1 =>
  if a1 = a2 then
    (rd (g 23) 6 (0 : Int32)).bind fun x2 =>
    (rd (g 46) 6 x2).bind fun x3 =>
    (rd (g 47) 6 x1).bind fun x4 =>
    if x3 = x4 then
      (rd (g 23) 6 (0 : Int32)).bind fun x5 =>
      (kF_meet g x1 x5).bind fun x6 =>
      if x6 = 0 then
        some g
      else
        Option.bind (α := St) (β := St)
          (if (g 0 24) = 0 then
            (cpy g 23 6 24 6 (0 : Int32) (0 : Int32) a2).bind fun g11 =>
            some g11
          else
            some g)
          (fun j8 => (pf j8 0 24 ((j8 0 24) + (1 : Int32))).bind fun g10 =>
          some g10)
    else
      some g
  else
    (rd (g 23) 6 (0 : Int32)).bind fun x16 =>
    iter (L := St × Int32) (T := St) (un2 fun s17a s17b => 
      if (s17a 40 0) ≤ s17b then
        some (.inr s17a)
      else
        if ((a3 >>> (s17b &&& 31)) &&& (1 : Int32)) = (1 : Int32) then
          some (.inl (s17a, (s17b + (1 : Int32))))
        else
          (rd (s17a 46) 6 s17b).bind fun x20 =>
          (rd (s17a 47) 6 x1).bind fun x21 =>
          if x20 = x21 then
            (kF_meet s17a x1 s17b).bind fun x22 =>
            if x22 = 0 then
              some (.inl (s17a, (s17b + (1 : Int32))))
            else
              (kF_X3_isWhole s17a s17b).bind fun x24 =>
              if x24 = 0 then
                (wr s17a 23 6 a1 s17b).bind fun g26 =>
                (rc g26 (a1 + (1 : Int32)) a2 (a3 ||| ((1 : Int32) <<< (s17b &&& 31)))).bind fun g27 =>
                some (.inl (g27, (s17b + (1 : Int32))))
              else
                some (.inl (s17a, (s17b + (1 : Int32))))
          else
            some (.inl (s17a, (s17b + (1 : Int32))))) (g, (x16 + (1 : Int32)))
set_option maxHeartbeats 4000000 in
theorem kC_ringsFrom {l : Launch} {D : va_G} {A : Nat → Prop} {K : Nat → Nat} {δ : Nat → ClassId} {sr ρ : Rf} {dy : va_W} {E : EE} (hE : EOK δ ρ dy E) : ∀ (d : Nat) (g : St) (a1 : Int32) (a2 : Int32) (a3 : Int32) (z : St), kF_ringsFrom E d g a1 a2 a3 = some z → Ct l yX0_ringsFrom cX0_ringsFrom 6 none (1 + 1 * d) (40 + 25 * d) D vwCl (kT δ) A (kW K δ sr ρ dy) [.ref (K 0), .int a1, .int a2, .int a3] g (QV D vwCl A (kW K δ sr ρ dy) z) := by
  intro d
  induction d with
  | zero =>
    intro g a1 a2 a3 z hf
    cases hf
  | succ d ih =>
    intro g a1 a2 a3 z hf
    rw [kF_ringsFrom] at hf
    generalize hrc : kF_ringsFrom E d = rc at hf ih
    dsimp only at hf
    have hrec := ih
    generalize hF : (1 + 1 * d) = F at hrec
    generalize hLo : (40 + 25 * d) = Lo at hrec
    refine ct_intro (own := RX0) (lv0 := [(0, .ref (K 0)), (1, .int a1), (2, .int a2), (3, .int a3)]) (by decide) rfl (Nat.le_of_ble_eq_true rfl) rfl ?_
    intro p e s m args below meth c X hr
    refine tw_aload_n X dX0_ringsFrom_0 rfl 0 rfl ?_
    refine kgX0_121_0 X  dX0_ringsFrom_1 ?_
    refine tw_iload_n X dX0_ringsFrom_4 rfl 1 rfl ?_
    refine tw_iconst (v := 1) X dX0_ringsFrom_5 rfl ?_
    refine tw_isub X dX0_ringsFrom_6 ?_
    obtain ⟨x1, hx1, hf⟩ := bnd hf
    refine klX0_23 X hx1 dX0_ringsFrom_7 ?_
    refine tw_istore (lv' := [(4, .int x1), (0, .ref (K 0)), (1, .int a1), (2, .int a2), (3, .int a3)]) X dX0_ringsFrom_8 (by decide) rfl ?_
    refine tw_iload_n X dX0_ringsFrom_10 rfl 2 rfl ?_
    refine tw_iload_n X dX0_ringsFrom_11 rfl 3 rfl ?_
    refine tw_icmp_ne (tgt := 90) X dX0_ringsFrom_12 rfl hf (fun q34 hf => ?_) (fun q34 hf => ?_)
    · clear q34
      refine tw_aload_n X dX0_ringsFrom_15 rfl 1 rfl ?_
      refine kgX0_47_0 X  dX0_ringsFrom_16 ?_
      refine kgX0_174_3 X  dX0_ringsFrom_19 ?_
      refine tw_aload_n X dX0_ringsFrom_22 rfl 1 rfl ?_
      refine kgX0_121_0 X  dX0_ringsFrom_23 ?_
      refine tw_iconst (v := 0) X dX0_ringsFrom_26 rfl ?_
      obtain ⟨x2, hx2, hf⟩ := bnd hf
      refine klX0_23 X hx2 dX0_ringsFrom_27 ?_
      obtain ⟨x3, hx3, hf⟩ := bnd hf
      refine klX0_46 X hx3 dX0_ringsFrom_28 ?_
      refine tw_aload_n X dX0_ringsFrom_29 rfl 1 rfl ?_
      refine kgX0_47_0 X  dX0_ringsFrom_30 ?_
      refine kgX0_160_3 X  dX0_ringsFrom_33 ?_
      refine tw_iload X dX0_ringsFrom_36 0 rfl ?_
      obtain ⟨x4, hx4, hf⟩ := bnd hf
      refine klX0_47 X hx4 dX0_ringsFrom_38 ?_
      refine tw_icmp_ne (tgt := 57) X dX0_ringsFrom_39 rfl hf (fun q15 hf => ?_) (fun q15 hf => ?_)
      · clear q15
        refine tw_aload_n X dX0_ringsFrom_42 rfl 1 rfl ?_
        refine tw_iload X dX0_ringsFrom_43 0 rfl ?_
        refine tw_aload_n X dX0_ringsFrom_45 rfl 1 rfl ?_
        refine kgX0_121_0 X  dX0_ringsFrom_46 ?_
        refine tw_iconst (v := 0) X dX0_ringsFrom_49 rfl ?_
        obtain ⟨x5, hx5, hf⟩ := bnd hf
        refine klX0_23 X hx5 dX0_ringsFrom_50 ?_
        obtain ⟨x6, hx6, hf⟩ := bnd hf
        refine tw_callVz (As := [.int x1, .int x5]) (st := []) X (kC_meet hx6) kGX0_195 kI_X0_meet (rom_le (by omega) (by omega)) ⟨Nat.zero_le _, Nat.zero_le _⟩ 0 rfl rfl rfl rfl (Nat.le_of_ble_eq_true rfl) dX0_ringsFrom_51 ?_
        intro hb7
        refine tw_if_ne (tgt := 58) X dX0_ringsFrom_54 rfl hf (fun q14 hf => ?_) (fun q14 hf => ?_)
        · clear q14
          exact tw_vret X hr (Option.some.inj hf) dX0_ringsFrom_57
        · clear q14
          refine tw_aload_n X dX0_ringsFrom_58 rfl 1 rfl ?_
          refine kgX0_444_0 X  dX0_ringsFrom_59 ?_
          refine bj_walk (P := fun j8 : St => TW p l e (rom (1 + 1 * (d + 1)) (40 + 25 * (d + 1))) s m args below meth c (MQ below (QV D vwCl A (kW K δ sr ρ dy) z) args s 0 0 A) D vwCl A (kW K δ sr ρ dy) 6 0 0 j8 79 [(0, .ref (K 0))] []) hf ?_ ?_
          · intro j8 hf
            refine tw_aload_n X dX0_ringsFrom_79 rfl 0 rfl ?_
            refine tw_dup X dX0_ringsFrom_80 rfl ?_
            refine kgX0_444_0 X  dX0_ringsFrom_81 ?_
            refine tw_iconst (v := 1) X dX0_ringsFrom_84 rfl ?_
            refine tw_iadd X dX0_ringsFrom_85 ?_
            obtain ⟨g10, hg10, hf⟩ := bnd hf
            refine kpX0_444_0 X hg10 dX0_ringsFrom_86 ?_
            exact tw_vret X hr (Option.some.inj hf) dX0_ringsFrom_89
          · intro zz13 hf hk9
            refine tw_if_ne (tgt := 79) X dX0_ringsFrom_62 rfl hf (fun q12 hf => ?_) (fun q12 hf => ?_)
            · clear q12
              refine tw_aload_n X dX0_ringsFrom_65 rfl 1 rfl ?_
              refine kgX0_121_0 X  dX0_ringsFrom_66 ?_
              refine tw_iconst (v := 0) X dX0_ringsFrom_69 rfl ?_
              refine tw_aload_n X dX0_ringsFrom_70 rfl 1 rfl ?_
              refine kgX0_124_0 X  dX0_ringsFrom_71 ?_
              refine tw_iconst (v := 0) X dX0_ringsFrom_74 rfl ?_
              refine tw_iload_n X dX0_ringsFrom_75 rfl 3 rfl ?_
              obtain ⟨g11, hg11, hf⟩ := bnd hf
              refine kcX0_23_24 X hg11 (rom_40 (by omega) (by omega)) (Nat.le_of_ble_eq_true rfl) dX0_ringsFrom_76 ?_
              refine tw_sub [1] (lv' := [(0, .ref (K 0))]) rfl ?_
              have hL := hk9 _ hf
              exact hL
            · clear q12
              refine tw_sub [1] (lv' := [(0, .ref (K 0))]) rfl ?_
              have hL := hk9 _ hf
              exact hL
      · clear q15
        exact tw_vret X hr (Option.some.inj hf) dX0_ringsFrom_57
    · clear q34
      refine tw_aload_n X dX0_ringsFrom_90 rfl 1 rfl ?_
      refine kgX0_121_0 X  dX0_ringsFrom_91 ?_
      refine tw_iconst (v := 0) X dX0_ringsFrom_94 rfl ?_
      obtain ⟨x16, hx16, hf⟩ := bnd hf
      refine klX0_23 X hx16 dX0_ringsFrom_95 ?_
      refine tw_iconst (v := 1) X dX0_ringsFrom_96 rfl ?_
      refine tw_iadd X dX0_ringsFrom_97 ?_
      refine tw_istore (lv' := [(5, .int (x16 + (1 : Int32))), (4, .int x1), (0, .ref (K 0)), (1, .int a1), (2, .int a2), (3, .int a3)]) X dX0_ringsFrom_98 (by decide) rfl ?_
      refine tw_sub [2, 3, 4, 5, 1, 0] (lv' := [(0, .ref (K 0)), (1, .int a1), (2, .int a2), (3, .int a3), (4, .int x1), (5, .int (x16 + (1 : Int32)))]) rfl ?_
      refine it_walk (P := un2 fun s17a s17b => TW p l e (rom (1 + 1 * (d + 1)) (40 + 25 * (d + 1))) s m args below meth c (MQ below (QV D vwCl A (kW K δ sr ρ dy) z) args s 0 0 A) D vwCl A (kW K δ sr ρ dy) 6 0 0 s17a 100 [(0, .ref (K 0)), (1, .int a1), (2, .int a2), (3, .int a3), (4, .int x1), (5, .int s17b)] []) hf ?_
      rintro ⟨s17a, s17b⟩ zz33 hf hl18
      dsimp only [un2] at hf ⊢
      refine tw_iload X dX0_ringsFrom_100 5 rfl ?_
      refine tw_aload_n X dX0_ringsFrom_102 rfl 0 rfl ?_
      refine kgX0_47_0 X  dX0_ringsFrom_103 ?_
      refine kgX0_147_3 X  dX0_ringsFrom_106 ?_
      refine tw_icmp_ge (tgt := 199) X dX0_ringsFrom_109 rfl hf (fun q32 hf => ?_) (fun q32 hf => ?_)
      · clear q32
        have hf19 := leafR hf hl18
        exact tw_vret X hr (Option.some.inj hf19) dX0_ringsFrom_199
      · clear q32
        refine tw_iload_n X dX0_ringsFrom_112 rfl 3 rfl ?_
        refine tw_iload X dX0_ringsFrom_113 5 rfl ?_
        refine tw_ishr X dX0_ringsFrom_115 ?_
        refine tw_iconst (v := 1) X dX0_ringsFrom_116 rfl ?_
        refine tw_iand X dX0_ringsFrom_117 ?_
        refine tw_iconst (v := 1) X dX0_ringsFrom_118 rfl ?_
        refine tw_icmp_eq (tgt := 193) X dX0_ringsFrom_119 rfl hf (fun q31 hf => ?_) (fun q31 hf => ?_)
        · clear q31
          refine tw_iinc (q := 5) (v := (s17b + (1 : Int32))) (lv' := [(5, .int (s17b + (1 : Int32))), (0, .ref (K 0)), (1, .int a1), (2, .int a2), (3, .int a3), (4, .int x1)]) X dX0_ringsFrom_193 rfl rfl (by decide) rfl ?_
          refine tw_goto (tgt := 100) X dX0_ringsFrom_196 rfl ?_
          refine tw_sub [1, 2, 3, 4, 5, 0] (lv' := [(0, .ref (K 0)), (1, .int a1), (2, .int a2), (3, .int a3), (4, .int x1), (5, .int (s17b + (1 : Int32)))]) rfl ?_
          have hL := leafL hf hl18
          exact hL
        · clear q31
          refine tw_aload_n X dX0_ringsFrom_122 rfl 0 rfl ?_
          refine kgX0_47_0 X  dX0_ringsFrom_123 ?_
          refine kgX0_174_3 X  dX0_ringsFrom_126 ?_
          refine tw_iload X dX0_ringsFrom_129 5 rfl ?_
          obtain ⟨x20, hx20, hf⟩ := bnd hf
          refine klX0_46 X hx20 dX0_ringsFrom_131 ?_
          refine tw_aload_n X dX0_ringsFrom_132 rfl 0 rfl ?_
          refine kgX0_47_0 X  dX0_ringsFrom_133 ?_
          refine kgX0_160_3 X  dX0_ringsFrom_136 ?_
          refine tw_iload X dX0_ringsFrom_139 4 rfl ?_
          obtain ⟨x21, hx21, hf⟩ := bnd hf
          refine klX0_47 X hx21 dX0_ringsFrom_141 ?_
          refine tw_icmp_ne (tgt := 193) X dX0_ringsFrom_142 rfl hf (fun q30 hf => ?_) (fun q30 hf => ?_)
          · clear q30
            refine tw_aload_n X dX0_ringsFrom_145 rfl 0 rfl ?_
            refine tw_iload X dX0_ringsFrom_146 4 rfl ?_
            refine tw_iload X dX0_ringsFrom_148 5 rfl ?_
            obtain ⟨x22, hx22, hf⟩ := bnd hf
            refine tw_callVz (As := [.int x1, .int s17b]) (st := []) X (kC_meet hx22) kGX0_195 kI_X0_meet (rom_le (by omega) (by omega)) ⟨Nat.zero_le _, Nat.zero_le _⟩ 0 rfl rfl rfl rfl (Nat.le_of_ble_eq_true rfl) dX0_ringsFrom_150 ?_
            intro hb23
            refine tw_if_eq (tgt := 193) X dX0_ringsFrom_153 rfl hf (fun q29 hf => ?_) (fun q29 hf => ?_)
            · clear q29
              refine tw_iinc (q := 5) (v := (s17b + (1 : Int32))) (lv' := [(5, .int (s17b + (1 : Int32))), (0, .ref (K 0)), (1, .int a1), (2, .int a2), (3, .int a3), (4, .int x1)]) X dX0_ringsFrom_193 rfl rfl (by decide) rfl ?_
              refine tw_goto (tgt := 100) X dX0_ringsFrom_196 rfl ?_
              refine tw_sub [1, 2, 3, 4, 5, 0] (lv' := [(0, .ref (K 0)), (1, .int a1), (2, .int a2), (3, .int a3), (4, .int x1), (5, .int (s17b + (1 : Int32)))]) rfl ?_
              have hL := leafL hf hl18
              exact hL
            · clear q29
              refine tw_aload_n X dX0_ringsFrom_156 rfl 0 rfl ?_
              refine kgX0_47_0 X  dX0_ringsFrom_157 ?_
              refine tw_iload X dX0_ringsFrom_160 5 rfl ?_
              obtain ⟨x24, hx24, hf⟩ := bnd hf
              refine tw_callVz (As := [.int s17b]) (st := []) X (kC_X3_isWhole hx24) kGX0_192 kI_X3_isWhole (rom_le (by omega) (by omega)) ⟨Nat.zero_le _, Nat.zero_le _⟩ 3 rfl rfl rfl rfl (Nat.le_of_ble_eq_true rfl) dX0_ringsFrom_162 ?_
              intro hb25
              refine tw_if_eq (tgt := 171) X dX0_ringsFrom_165 rfl hf (fun q28 hf => ?_) (fun q28 hf => ?_)
              · clear q28
                refine tw_aload_n X dX0_ringsFrom_171 rfl 0 rfl ?_
                refine kgX0_121_0 X  dX0_ringsFrom_172 ?_
                refine tw_iload_n X dX0_ringsFrom_175 rfl 1 rfl ?_
                refine tw_iload X dX0_ringsFrom_176 5 rfl ?_
                obtain ⟨g26, hg26, hf⟩ := bnd hf
                refine ksX0_23 X hg26 dX0_ringsFrom_178 ?_
                refine tw_aload_n X dX0_ringsFrom_179 rfl 0 rfl ?_
                refine tw_iload_n X dX0_ringsFrom_180 rfl 1 rfl ?_
                refine tw_iconst (v := 1) X dX0_ringsFrom_181 rfl ?_
                refine tw_iadd X dX0_ringsFrom_182 ?_
                refine tw_iload_n X dX0_ringsFrom_183 rfl 2 rfl ?_
                refine tw_iload_n X dX0_ringsFrom_184 rfl 3 rfl ?_
                refine tw_iconst (v := 1) X dX0_ringsFrom_185 rfl ?_
                refine tw_iload X dX0_ringsFrom_186 5 rfl ?_
                refine tw_ishl X dX0_ringsFrom_188 ?_
                refine tw_ior X dX0_ringsFrom_189 ?_
                obtain ⟨g27, hg27, hf⟩ := bnd hf
                refine tw_callVv (As := [.int (a1 + (1 : Int32)), .int a2, .int (a3 ||| ((1 : Int32) <<< (s17b &&& 31)))]) (st := []) X (hrec _ _ _ _ _ hg27) kGX0_447 kI_X0_ringsFrom (rom_le (by omega) (by omega)) ⟨Nat.zero_le _, Nat.zero_le _⟩ 0 rfl rfl rfl rfl (Nat.le_of_ble_eq_true rfl) dX0_ringsFrom_190 ?_
                refine tw_iinc (q := 5) (v := (s17b + (1 : Int32))) (lv' := [(5, .int (s17b + (1 : Int32))), (0, .ref (K 0)), (1, .int a1), (2, .int a2), (3, .int a3), (4, .int x1)]) X dX0_ringsFrom_193 rfl rfl (by decide) rfl ?_
                refine tw_goto (tgt := 100) X dX0_ringsFrom_196 rfl ?_
                refine tw_sub [1, 2, 3, 4, 5, 0] (lv' := [(0, .ref (K 0)), (1, .int a1), (2, .int a2), (3, .int a3), (4, .int x1), (5, .int (s17b + (1 : Int32)))]) rfl ?_
                have hL := leafL hf hl18
                exact hL
              · clear q28
                refine tw_goto (tgt := 193) X dX0_ringsFrom_168 rfl ?_
                refine tw_iinc (q := 5) (v := (s17b + (1 : Int32))) (lv' := [(5, .int (s17b + (1 : Int32))), (0, .ref (K 0)), (1, .int a1), (2, .int a2), (3, .int a3), (4, .int x1)]) X dX0_ringsFrom_193 rfl rfl (by decide) rfl ?_
                refine tw_goto (tgt := 100) X dX0_ringsFrom_196 rfl ?_
                refine tw_sub [1, 2, 3, 4, 5, 0] (lv' := [(0, .ref (K 0)), (1, .int a1), (2, .int a2), (3, .int a3), (4, .int x1), (5, .int (s17b + (1 : Int32)))]) rfl ?_
                have hL := leafL hf hl18
                exact hL
          · clear q30
            refine tw_iinc (q := 5) (v := (s17b + (1 : Int32))) (lv' := [(5, .int (s17b + (1 : Int32))), (0, .ref (K 0)), (1, .int a1), (2, .int a2), (3, .int a3), (4, .int x1)]) X dX0_ringsFrom_193 rfl rfl (by decide) rfl ?_
            refine tw_goto (tgt := 100) X dX0_ringsFrom_196 rfl ?_
            refine tw_sub [1, 2, 3, 4, 5, 0] (lv' := [(0, .ref (K 0)), (1, .int a1), (2, .int a2), (3, .int a3), (4, .int x1), (5, .int (s17b + (1 : Int32)))]) rfl ?_
            have hL := leafL hf hl18
            exact hL
noncomputable def kF_findRings (E : EE) (g : St) (a1 : Int32) : Option (St) :=
  (pf g 0 24 (0 : Int32)).bind fun g1 =>
  iter (L := St × Int32) (T := St) (un2 fun s2a s2b => 
    if (s2a 40 0) ≤ s2b then
      some (.inr s2a)
    else
      (kF_X3_isWhole s2a s2b).bind fun x5 =>
      if x5 = 0 then
        (wr s2a 23 6 (0 : Int32) s2b).bind fun g7 =>
        (kF_ringsFrom E 8 g7 (1 : Int32) a1 ((1 : Int32) <<< (s2b &&& 31))).bind fun g8 =>
        some (.inl (g8, (s2b + (1 : Int32))))
      else
        some (.inl (s2a, (s2b + (1 : Int32))))) (g1, (0 : Int32))
set_option maxHeartbeats 4000000 in
theorem kC_findRings {l : Launch} {D : va_G} {A : Nat → Prop} {K : Nat → Nat} {δ : Nat → ClassId} {sr ρ : Rf} {dy : va_W} {E : EE} (hE : EOK δ ρ dy E) {g : St} {a1 : Int32} {z : St} (hf : kF_findRings E g a1 = some z) : Ct l yX0_findRings cX0_findRings 3 none 10 265 D vwCl (kT δ) A (kW K δ sr ρ dy) [.ref (K 0), .int a1] g (QV D vwCl A (kW K δ sr ρ dy) z) := by
  unfold kF_findRings at hf
  refine ct_intro (own := RX0) (lv0 := [(0, .ref (K 0)), (1, .int a1)]) (by decide) rfl (Nat.le_of_ble_eq_true rfl) rfl ?_
  intro p e s m args below meth c X hr
  refine tw_aload_n X dX0_findRings_0 rfl 0 rfl ?_
  refine tw_iconst (v := 0) X dX0_findRings_1 rfl ?_
  obtain ⟨g1, hg1, hf⟩ := bnd hf
  refine kpX0_444_0 X hg1 dX0_findRings_2 ?_
  refine tw_iconst (v := 0) X dX0_findRings_5 rfl ?_
  refine tw_istore_n (lv' := [(2, .int (0 : Int32)), (0, .ref (K 0)), (1, .int a1)]) X dX0_findRings_6 rfl (by decide) rfl ?_
  refine tw_sub [1, 2, 0] (lv' := [(0, .ref (K 0)), (1, .int a1), (2, .int (0 : Int32))]) rfl ?_
  refine it_walk (P := un2 fun s2a s2b => TW p l e (rom 10 265) s m args below meth c (MQ below (QV D vwCl A (kW K δ sr ρ dy) z) args s 0 0 A) D vwCl A (kW K δ sr ρ dy) 3 0 0 s2a 7 [(0, .ref (K 0)), (1, .int a1), (2, .int s2b)] []) hf ?_
  rintro ⟨s2a, s2b⟩ zz11 hf hl3
  dsimp only [un2] at hf ⊢
  refine tw_iload_n X dX0_findRings_7 rfl 2 rfl ?_
  refine tw_aload_n X dX0_findRings_8 rfl 0 rfl ?_
  refine kgX0_47_0 X  dX0_findRings_9 ?_
  refine kgX0_147_3 X  dX0_findRings_12 ?_
  refine tw_icmp_ge (tgt := 54) X dX0_findRings_15 rfl hf (fun q10 hf => ?_) (fun q10 hf => ?_)
  · clear q10
    have hf4 := leafR hf hl3
    exact tw_vret X hr (Option.some.inj hf4) dX0_findRings_54
  · clear q10
    refine tw_aload_n X dX0_findRings_18 rfl 0 rfl ?_
    refine kgX0_47_0 X  dX0_findRings_19 ?_
    refine tw_iload_n X dX0_findRings_22 rfl 2 rfl ?_
    obtain ⟨x5, hx5, hf⟩ := bnd hf
    refine tw_callVz (As := [.int s2b]) (st := []) X (kC_X3_isWhole hx5) kGX0_192 kI_X3_isWhole ⟨Nat.le_of_ble_eq_true rfl, Nat.le_of_ble_eq_true rfl⟩ ⟨Nat.zero_le _, Nat.zero_le _⟩ 3 rfl rfl rfl rfl (Nat.le_of_ble_eq_true rfl) dX0_findRings_23 ?_
    intro hb6
    refine tw_if_eq (tgt := 32) X dX0_findRings_26 rfl hf (fun q9 hf => ?_) (fun q9 hf => ?_)
    · clear q9
      refine tw_aload_n X dX0_findRings_32 rfl 0 rfl ?_
      refine kgX0_121_0 X  dX0_findRings_33 ?_
      refine tw_iconst (v := 0) X dX0_findRings_36 rfl ?_
      refine tw_iload_n X dX0_findRings_37 rfl 2 rfl ?_
      obtain ⟨g7, hg7, hf⟩ := bnd hf
      refine ksX0_23 X hg7 dX0_findRings_38 ?_
      refine tw_aload_n X dX0_findRings_39 rfl 0 rfl ?_
      refine tw_iconst (v := 1) X dX0_findRings_40 rfl ?_
      refine tw_iload_n X dX0_findRings_41 rfl 1 rfl ?_
      refine tw_iconst (v := 1) X dX0_findRings_42 rfl ?_
      refine tw_iload_n X dX0_findRings_43 rfl 2 rfl ?_
      refine tw_ishl X dX0_findRings_44 ?_
      obtain ⟨g8, hg8, hf⟩ := bnd hf
      refine tw_callVv (As := [.int (1 : Int32), .int a1, .int ((1 : Int32) <<< (s2b &&& 31))]) (st := []) X (kC_ringsFrom hE 8 _ _ _ _ _ hg8) kGX0_447 kI_X0_ringsFrom ⟨Nat.le_of_ble_eq_true rfl, Nat.le_of_ble_eq_true rfl⟩ ⟨Nat.zero_le _, Nat.zero_le _⟩ 0 rfl rfl rfl rfl (Nat.le_of_ble_eq_true rfl) dX0_findRings_45 ?_
      refine tw_iinc (q := 2) (v := (s2b + (1 : Int32))) (lv' := [(2, .int (s2b + (1 : Int32))), (0, .ref (K 0)), (1, .int a1)]) X dX0_findRings_48 rfl rfl (by decide) rfl ?_
      refine tw_goto (tgt := 7) X dX0_findRings_51 rfl ?_
      refine tw_sub [1, 2, 0] (lv' := [(0, .ref (K 0)), (1, .int a1), (2, .int (s2b + (1 : Int32)))]) rfl ?_
      have hL := leafL hf hl3
      exact hL
    · clear q9
      refine tw_goto (tgt := 48) X dX0_findRings_29 rfl ?_
      refine tw_iinc (q := 2) (v := (s2b + (1 : Int32))) (lv' := [(2, .int (s2b + (1 : Int32))), (0, .ref (K 0)), (1, .int a1)]) X dX0_findRings_48 rfl rfl (by decide) rfl ?_
      refine tw_goto (tgt := 7) X dX0_findRings_51 rfl ?_
      refine tw_sub [1, 2, 0] (lv' := [(0, .ref (K 0)), (1, .int a1), (2, .int (s2b + (1 : Int32)))]) rfl ?_
      have hL := leafL hf hl3
      exact hL
noncomputable def kF_rings (E : EE) (g : St) (a1 : Int32) : Option (Int32 × St) :=
  if (kF_isIn a1 (2 : Int32) (6 : Int32)) = 0 then
    some ((-1 : Int32), g)
  else
    (kF_findRings E g a1).bind fun g2 =>
    some ((g2 0 24), g2)
set_option maxHeartbeats 4000000 in
theorem kC_rings {l : Launch} {D : va_G} {A : Nat → Prop} {K : Nat → Nat} {δ : Nat → ClassId} {sr ρ : Rf} {dy : va_W} {E : EE} (hE : EOK δ ρ dy E) {g : St} {a1 : Int32} {z : Int32 × St} (hf : kF_rings E g a1 = some z) : Ct l yX0_rings cX0_rings 2 (some .int) 11 287 D vwCl (kT δ) A (kW K δ sr ρ dy) [.ref (K 0), .int a1] g (QI D vwCl A (kW K δ sr ρ dy) z.1 z.2) := by
  unfold kF_rings at hf
  refine ct_intro (own := RX0) (lv0 := [(0, .ref (K 0)), (1, .int a1)]) (by decide) rfl (Nat.le_of_ble_eq_true rfl) rfl ?_
  intro p e s m args below meth c X hr
  refine tw_iload_n X dX0_rings_0 rfl 1 rfl ?_
  refine tw_iconst (v := 2) X dX0_rings_1 rfl ?_
  refine tw_bipush (v := 6) X dX0_rings_2 rfl ?_
  refine tw_callSz (As := [.int a1, .int (2 : Int32), .int (6 : Int32)]) (st := []) X (kC_isIn (g := g) a1 (2 : Int32) (6 : Int32)) kGX0_149 kI_X0_isIn ⟨Nat.le_of_ble_eq_true rfl, Nat.le_of_ble_eq_true rfl⟩ ⟨Nat.zero_le _, Nat.zero_le _⟩ rfl rfl (Nat.le_of_ble_eq_true rfl) dX0_rings_4 ?_
  intro hb1
  refine tw_if_ne (tgt := 12) X dX0_rings_7 rfl hf (fun q3 hf => ?_) (fun q3 hf => ?_)
  · clear q3
    refine tw_iconst (v := -1) X dX0_rings_10 rfl ?_
    exact tw_iret X hr (prj1 hf) (prj2 hf) dX0_rings_11
  · clear q3
    refine tw_aload_n X dX0_rings_12 rfl 0 rfl ?_
    refine tw_iload_n X dX0_rings_13 rfl 1 rfl ?_
    obtain ⟨g2, hg2, hf⟩ := bnd hf
    refine tw_callVv (As := [.int a1]) (st := []) X (kC_findRings hE hg2) kGX0_450 kI_X0_findRings ⟨Nat.le_of_ble_eq_true rfl, Nat.le_of_ble_eq_true rfl⟩ ⟨Nat.zero_le _, Nat.zero_le _⟩ 0 rfl rfl rfl rfl (Nat.le_of_ble_eq_true rfl) dX0_rings_14 ?_
    refine tw_aload_n X dX0_rings_17 rfl 0 rfl ?_
    refine kgX0_444_0 X  dX0_rings_18 ?_
    exact tw_iret X hr (prj1 hf) (prj2 hf) dX0_rings_21
noncomputable def kF_ring (E : EE) (g : St) (a1 : Int32) (a2 : Int32) : Option (Int32 × St) :=
  if (kF_isIn a1 (2 : Int32) (6 : Int32)) = 0 then
    some ((-1 : Int32), g)
  else
    if (kF_isIn a2 (0 : Int32) (a1 - (1 : Int32))) = 0 then
      some ((-1 : Int32), g)
    else
      (kF_findRings E g a1).bind fun g3 =>
      if (g3 0 24) ≤ 0 then
        some ((-3 : Int32), g3)
      else
        (rd (g3 24) 6 a2).bind fun x4 =>
        some (x4, g3)
set_option maxHeartbeats 4000000 in
theorem kC_ring {l : Launch} {D : va_G} {A : Nat → Prop} {K : Nat → Nat} {δ : Nat → ClassId} {sr ρ : Rf} {dy : va_W} {E : EE} (hE : EOK δ ρ dy E) {g : St} {a1 : Int32} {a2 : Int32} {z : Int32 × St} (hf : kF_ring E g a1 a2 = some z) : Ct l yX0_ring cX0_ring 3 (some .int) 11 287 D vwCl (kT δ) A (kW K δ sr ρ dy) [.ref (K 0), .int a1, .int a2] g (QI D vwCl A (kW K δ sr ρ dy) z.1 z.2) := by
  unfold kF_ring at hf
  refine ct_intro (own := RX0) (lv0 := [(0, .ref (K 0)), (1, .int a1), (2, .int a2)]) (by decide) rfl (Nat.le_of_ble_eq_true rfl) rfl ?_
  intro p e s m args below meth c X hr
  refine tw_iload_n X dX0_ring_0 rfl 1 rfl ?_
  refine tw_iconst (v := 2) X dX0_ring_1 rfl ?_
  refine tw_bipush (v := 6) X dX0_ring_2 rfl ?_
  refine tw_callSz (As := [.int a1, .int (2 : Int32), .int (6 : Int32)]) (st := []) X (kC_isIn (g := g) a1 (2 : Int32) (6 : Int32)) kGX0_149 kI_X0_isIn ⟨Nat.le_of_ble_eq_true rfl, Nat.le_of_ble_eq_true rfl⟩ ⟨Nat.zero_le _, Nat.zero_le _⟩ rfl rfl (Nat.le_of_ble_eq_true rfl) dX0_ring_4 ?_
  intro hb1
  refine tw_if_eq (tgt := 21) X dX0_ring_7 rfl hf (fun q7 hf => ?_) (fun q7 hf => ?_)
  · clear q7
    refine tw_iconst (v := -1) X dX0_ring_21 rfl ?_
    exact tw_iret X hr (prj1 hf) (prj2 hf) dX0_ring_22
  · clear q7
    refine tw_iload_n X dX0_ring_10 rfl 2 rfl ?_
    refine tw_iconst (v := 0) X dX0_ring_11 rfl ?_
    refine tw_iload_n X dX0_ring_12 rfl 1 rfl ?_
    refine tw_iconst (v := 1) X dX0_ring_13 rfl ?_
    refine tw_isub X dX0_ring_14 ?_
    refine tw_callSz (As := [.int a2, .int (0 : Int32), .int (a1 - (1 : Int32))]) (st := []) X (kC_isIn (g := g) a2 (0 : Int32) (a1 - (1 : Int32))) kGX0_149 kI_X0_isIn ⟨Nat.le_of_ble_eq_true rfl, Nat.le_of_ble_eq_true rfl⟩ ⟨Nat.zero_le _, Nat.zero_le _⟩ rfl rfl (Nat.le_of_ble_eq_true rfl) dX0_ring_15 ?_
    intro hb2
    refine tw_if_ne (tgt := 23) X dX0_ring_18 rfl hf (fun q6 hf => ?_) (fun q6 hf => ?_)
    · clear q6
      refine tw_iconst (v := -1) X dX0_ring_21 rfl ?_
      exact tw_iret X hr (prj1 hf) (prj2 hf) dX0_ring_22
    · clear q6
      refine tw_aload_n X dX0_ring_23 rfl 0 rfl ?_
      refine tw_iload_n X dX0_ring_24 rfl 1 rfl ?_
      obtain ⟨g3, hg3, hf⟩ := bnd hf
      refine tw_callVv (As := [.int a1]) (st := []) X (kC_findRings hE hg3) kGX0_450 kI_X0_findRings ⟨Nat.le_of_ble_eq_true rfl, Nat.le_of_ble_eq_true rfl⟩ ⟨Nat.zero_le _, Nat.zero_le _⟩ 0 rfl rfl rfl rfl (Nat.le_of_ble_eq_true rfl) dX0_ring_25 ?_
      refine tw_aload_n X dX0_ring_28 rfl 0 rfl ?_
      refine kgX0_444_0 X  dX0_ring_29 ?_
      refine tw_if_le (tgt := 44) X dX0_ring_32 rfl hf (fun q5 hf => ?_) (fun q5 hf => ?_)
      · clear q5
        refine tw_bipush (v := -3) X dX0_ring_44 rfl ?_
        exact tw_iret X hr (prj1 hf) (prj2 hf) dX0_ring_46
      · clear q5
        refine tw_aload_n X dX0_ring_35 rfl 0 rfl ?_
        refine kgX0_124_0 X  dX0_ring_36 ?_
        refine tw_iload_n X dX0_ring_39 rfl 2 rfl ?_
        obtain ⟨x4, hx4, hf⟩ := bnd hf
        refine klX0_24 X hx4 dX0_ring_40 ?_
        refine tw_goto (tgt := 46) X dX0_ring_41 rfl ?_
        exact tw_iret X hr (prj1 hf) (prj2 hf) dX0_ring_46
