/-! THE COMPONENT's METHODS (printed by gen/mk_comp.py) -/
set_option maxRecDepth 100000
noncomputable def kF_reaches (E : EE) : Nat → St → Int32 → Int32 → Option (St)
  | 0 => fun _ _ _ => none
  | d + 1 => fun g a1 a2 => let rc := kF_reaches E d
  (rd (g 46) 6 a1).bind fun x1 =>
  (pf g 0 25 ((g 0 25) ||| ((1 : Int32) <<< (x1 &&& 31)))).bind fun g2 =>
  iter (L := St × Int32) (T := St) (un2 fun s3a s3b => 
    if (s3a 40 0) ≤ s3b then
      some (.inr s3a)
    else
      if a2 ≤ 0 then
        some (.inr s3a)
      else
        (kF_meet s3a a1 s3b).bind fun x7 =>
        if x7 = 0 then
          some (.inl (s3a, (s3b + (1 : Int32))))
        else
          (rd (s3a 46) 6 a1).bind fun x9 =>
          (rd (s3a 46) 6 s3b).bind fun x10 =>
          if x9 = x10 then
            some (.inl (s3a, (s3b + (1 : Int32))))
          else
            (rd (s3a 46) 6 a1).bind fun x11 =>
            (rd (s3a 50) 8 x11).bind fun x12 =>
            (rd (s3a 46) 6 s3b).bind fun x13 =>
            (rd (s3a 50) 8 x13).bind fun x14 =>
            if x14 ≤ x12 then
              (kF_X3_exchange s3a a1 s3b).bind fun g15 =>
              (rc g15 a1 (a2 - (1 : Int32))).bind fun g16 =>
              (kF_X3_exchange g16 a1 s3b).bind fun g17 =>
              some (.inl (g17, (s3b + (1 : Int32))))
            else
              some (.inl (s3a, (s3b + (1 : Int32))))) (g2, (0 : Int32))
set_option maxHeartbeats 4000000 in
theorem kC_reaches {l : Launch} {D : va_G} {A : Nat → Prop} {K : Nat → Nat} {δ : Nat → ClassId} {sr ρ : Rf} {dy : va_W} {E : EE} (hE : EOK δ ρ dy E) : ∀ (d : Nat) (g : St) (a1 : Int32) (a2 : Int32) (z : St), kF_reaches E d g a1 a2 = some z → Ct l yX0_reaches cX0_reaches 4 none (1 + 1 * d) (23 + 23 * d) D vwCl (kT δ) A (kW K δ sr ρ dy) [.ref (K 0), .int a1, .int a2] g (QV D vwCl A (kW K δ sr ρ dy) z) := by
  intro d
  induction d with
  | zero =>
    intro g a1 a2 z hf
    cases hf
  | succ d ih =>
    intro g a1 a2 z hf
    rw [kF_reaches] at hf
    generalize hrc : kF_reaches E d = rc at hf ih
    dsimp only at hf
    have hrec := ih
    generalize hF : (1 + 1 * d) = F at hrec
    generalize hLo : (23 + 23 * d) = Lo at hrec
    refine ct_intro (own := RX0) (lv0 := [(0, .ref (K 0)), (1, .int a1), (2, .int a2)]) (by decide) rfl (Nat.le_of_ble_eq_true rfl) rfl ?_
    intro p e s m args below meth c X hr
    refine tw_aload_n X dX0_reaches_0 rfl 0 rfl ?_
    refine tw_dup X dX0_reaches_1 rfl ?_
    refine kgX0_453_0 X  dX0_reaches_2 ?_
    refine tw_iconst (v := 1) X dX0_reaches_5 rfl ?_
    refine tw_aload_n X dX0_reaches_6 rfl 0 rfl ?_
    refine kgX0_47_0 X  dX0_reaches_7 ?_
    refine kgX0_174_3 X  dX0_reaches_10 ?_
    refine tw_iload_n X dX0_reaches_13 rfl 1 rfl ?_
    obtain ⟨x1, hx1, hf⟩ := bnd hf
    refine klX0_46 X hx1 dX0_reaches_14 ?_
    refine tw_ishl X dX0_reaches_15 ?_
    refine tw_ior X dX0_reaches_16 ?_
    obtain ⟨g2, hg2, hf⟩ := bnd hf
    refine kpX0_453_0 X hg2 dX0_reaches_17 ?_
    refine tw_iconst (v := 0) X dX0_reaches_20 rfl ?_
    refine tw_istore_n (lv' := [(3, .int (0 : Int32)), (0, .ref (K 0)), (1, .int a1), (2, .int a2)]) X dX0_reaches_21 rfl (by decide) rfl ?_
    refine tw_sub [1, 2, 3, 0] (lv' := [(0, .ref (K 0)), (1, .int a1), (2, .int a2), (3, .int (0 : Int32))]) rfl ?_
    refine it_walk (P := un2 fun s3a s3b => TW p l e (rom (1 + 1 * (d + 1)) (23 + 23 * (d + 1))) s m args below meth c (MQ below (QV D vwCl A (kW K δ sr ρ dy) z) args s 0 0 A) D vwCl A (kW K δ sr ρ dy) 4 0 0 s3a 22 [(0, .ref (K 0)), (1, .int a1), (2, .int a2), (3, .int s3b)] []) hf ?_
    rintro ⟨s3a, s3b⟩ zz23 hf hl4
    dsimp only [un2] at hf ⊢
    refine tw_iload_n X dX0_reaches_22 rfl 3 rfl ?_
    refine tw_aload_n X dX0_reaches_23 rfl 0 rfl ?_
    refine kgX0_47_0 X  dX0_reaches_24 ?_
    refine kgX0_147_3 X  dX0_reaches_27 ?_
    refine tw_icmp_ge (tgt := 139) X dX0_reaches_30 rfl hf (fun q22 hf => ?_) (fun q22 hf => ?_)
    · clear q22
      have hf5 := leafR hf hl4
      exact tw_vret X hr (Option.some.inj hf5) dX0_reaches_139
    · clear q22
      refine tw_iload_n X dX0_reaches_33 rfl 2 rfl ?_
      refine tw_if_le (tgt := 139) X dX0_reaches_34 rfl hf (fun q21 hf => ?_) (fun q21 hf => ?_)
      · clear q21
        have hf6 := leafR hf hl4
        exact tw_vret X hr (Option.some.inj hf6) dX0_reaches_139
      · clear q21
        refine tw_aload_n X dX0_reaches_37 rfl 0 rfl ?_
        refine tw_iload_n X dX0_reaches_38 rfl 1 rfl ?_
        refine tw_iload_n X dX0_reaches_39 rfl 3 rfl ?_
        obtain ⟨x7, hx7, hf⟩ := bnd hf
        refine tw_callVz (As := [.int a1, .int s3b]) (st := []) X (kC_meet hx7) kGX0_195 kI_X0_meet (rom_le (by omega) (by omega)) ⟨Nat.zero_le _, Nat.zero_le _⟩ 0 rfl rfl rfl rfl (Nat.le_of_ble_eq_true rfl) dX0_reaches_40 ?_
        intro hb8
        refine tw_if_eq (tgt := 133) X dX0_reaches_43 rfl hf (fun q20 hf => ?_) (fun q20 hf => ?_)
        · clear q20
          refine tw_iinc (q := 3) (v := (s3b + (1 : Int32))) (lv' := [(3, .int (s3b + (1 : Int32))), (0, .ref (K 0)), (1, .int a1), (2, .int a2)]) X dX0_reaches_133 rfl rfl (by decide) rfl ?_
          refine tw_goto (tgt := 22) X dX0_reaches_136 rfl ?_
          refine tw_sub [1, 2, 3, 0] (lv' := [(0, .ref (K 0)), (1, .int a1), (2, .int a2), (3, .int (s3b + (1 : Int32)))]) rfl ?_
          have hL := leafL hf hl4
          exact hL
        · clear q20
          refine tw_aload_n X dX0_reaches_46 rfl 0 rfl ?_
          refine kgX0_47_0 X  dX0_reaches_47 ?_
          refine kgX0_174_3 X  dX0_reaches_50 ?_
          refine tw_iload_n X dX0_reaches_53 rfl 1 rfl ?_
          obtain ⟨x9, hx9, hf⟩ := bnd hf
          refine klX0_46 X hx9 dX0_reaches_54 ?_
          refine tw_aload_n X dX0_reaches_55 rfl 0 rfl ?_
          refine kgX0_47_0 X  dX0_reaches_56 ?_
          refine kgX0_174_3 X  dX0_reaches_59 ?_
          refine tw_iload_n X dX0_reaches_62 rfl 3 rfl ?_
          obtain ⟨x10, hx10, hf⟩ := bnd hf
          refine klX0_46 X hx10 dX0_reaches_63 ?_
          refine tw_icmp_eq (tgt := 133) X dX0_reaches_64 rfl hf (fun q19 hf => ?_) (fun q19 hf => ?_)
          · clear q19
            refine tw_iinc (q := 3) (v := (s3b + (1 : Int32))) (lv' := [(3, .int (s3b + (1 : Int32))), (0, .ref (K 0)), (1, .int a1), (2, .int a2)]) X dX0_reaches_133 rfl rfl (by decide) rfl ?_
            refine tw_goto (tgt := 22) X dX0_reaches_136 rfl ?_
            refine tw_sub [1, 2, 3, 0] (lv' := [(0, .ref (K 0)), (1, .int a1), (2, .int a2), (3, .int (s3b + (1 : Int32)))]) rfl ?_
            have hL := leafL hf hl4
            exact hL
          · clear q19
            refine tw_aload_n X dX0_reaches_67 rfl 0 rfl ?_
            refine kgX0_47_0 X  dX0_reaches_68 ?_
            refine kgX0_198_3 X  dX0_reaches_71 ?_
            refine tw_aload_n X dX0_reaches_74 rfl 0 rfl ?_
            refine kgX0_47_0 X  dX0_reaches_75 ?_
            refine kgX0_174_3 X  dX0_reaches_78 ?_
            refine tw_iload_n X dX0_reaches_81 rfl 1 rfl ?_
            obtain ⟨x11, hx11, hf⟩ := bnd hf
            refine klX0_46 X hx11 dX0_reaches_82 ?_
            obtain ⟨x12, hx12, hf⟩ := bnd hf
            refine klX0_50 X hx12 dX0_reaches_83 ?_
            refine tw_aload_n X dX0_reaches_84 rfl 0 rfl ?_
            refine kgX0_47_0 X  dX0_reaches_85 ?_
            refine kgX0_198_3 X  dX0_reaches_88 ?_
            refine tw_aload_n X dX0_reaches_91 rfl 0 rfl ?_
            refine kgX0_47_0 X  dX0_reaches_92 ?_
            refine kgX0_174_3 X  dX0_reaches_95 ?_
            refine tw_iload_n X dX0_reaches_98 rfl 3 rfl ?_
            obtain ⟨x13, hx13, hf⟩ := bnd hf
            refine klX0_46 X hx13 dX0_reaches_99 ?_
            obtain ⟨x14, hx14, hf⟩ := bnd hf
            refine klX0_50 X hx14 dX0_reaches_100 ?_
            refine tw_icmp_ge (tgt := 107) X dX0_reaches_101 rfl hf (fun q18 hf => ?_) (fun q18 hf => ?_)
            · clear q18
              refine tw_aload_n X dX0_reaches_107 rfl 0 rfl ?_
              refine kgX0_47_0 X  dX0_reaches_108 ?_
              refine tw_iload_n X dX0_reaches_111 rfl 1 rfl ?_
              refine tw_iload_n X dX0_reaches_112 rfl 3 rfl ?_
              obtain ⟨g15, hg15, hf⟩ := bnd hf
              refine tw_callVv (As := [.int a1, .int s3b]) (st := []) X (kC_X3_exchange hg15) kGX0_383 kI_X3_exchange (rom_le (by omega) (by omega)) ⟨Nat.zero_le _, Nat.zero_le _⟩ 3 rfl rfl rfl rfl (Nat.le_of_ble_eq_true rfl) dX0_reaches_113 ?_
              refine tw_aload_n X dX0_reaches_116 rfl 0 rfl ?_
              refine tw_iload_n X dX0_reaches_117 rfl 1 rfl ?_
              refine tw_iload_n X dX0_reaches_118 rfl 2 rfl ?_
              refine tw_iconst (v := 1) X dX0_reaches_119 rfl ?_
              refine tw_isub X dX0_reaches_120 ?_
              obtain ⟨g16, hg16, hf⟩ := bnd hf
              refine tw_callVv (As := [.int a1, .int (a2 - (1 : Int32))]) (st := []) X (hrec _ _ _ _ hg16) kGX0_456 kI_X0_reaches (rom_le (by omega) (by omega)) ⟨Nat.zero_le _, Nat.zero_le _⟩ 0 rfl rfl rfl rfl (Nat.le_of_ble_eq_true rfl) dX0_reaches_121 ?_
              refine tw_aload_n X dX0_reaches_124 rfl 0 rfl ?_
              refine kgX0_47_0 X  dX0_reaches_125 ?_
              refine tw_iload_n X dX0_reaches_128 rfl 1 rfl ?_
              refine tw_iload_n X dX0_reaches_129 rfl 3 rfl ?_
              obtain ⟨g17, hg17, hf⟩ := bnd hf
              refine tw_callVv (As := [.int a1, .int s3b]) (st := []) X (kC_X3_exchange hg17) kGX0_383 kI_X3_exchange (rom_le (by omega) (by omega)) ⟨Nat.zero_le _, Nat.zero_le _⟩ 3 rfl rfl rfl rfl (Nat.le_of_ble_eq_true rfl) dX0_reaches_130 ?_
              refine tw_iinc (q := 3) (v := (s3b + (1 : Int32))) (lv' := [(3, .int (s3b + (1 : Int32))), (0, .ref (K 0)), (1, .int a1), (2, .int a2)]) X dX0_reaches_133 rfl rfl (by decide) rfl ?_
              refine tw_goto (tgt := 22) X dX0_reaches_136 rfl ?_
              refine tw_sub [1, 2, 3, 0] (lv' := [(0, .ref (K 0)), (1, .int a1), (2, .int a2), (3, .int (s3b + (1 : Int32)))]) rfl ?_
              have hL := leafL hf hl4
              exact hL
            · clear q18
              refine tw_goto (tgt := 133) X dX0_reaches_104 rfl ?_
              refine tw_iinc (q := 3) (v := (s3b + (1 : Int32))) (lv' := [(3, .int (s3b + (1 : Int32))), (0, .ref (K 0)), (1, .int a1), (2, .int a2)]) X dX0_reaches_133 rfl rfl (by decide) rfl ?_
              refine tw_goto (tgt := 22) X dX0_reaches_136 rfl ?_
              refine tw_sub [1, 2, 3, 0] (lv' := [(0, .ref (K 0)), (1, .int a1), (2, .int a2), (3, .int (s3b + (1 : Int32)))]) rfl ?_
              have hL := leafL hf hl4
              exact hL
noncomputable def kF_reachOf (E : EE) (g : St) (a1 : Int32) (a2 : Int32) : Option (Int32 × St) :=
  (pf g 0 25 (0 : Int32)).bind fun g1 =>
  (kF_reaches E 6 g1 a1 a2).bind fun g2 =>
  some ((g2 0 25), g2)
set_option maxHeartbeats 4000000 in
theorem kC_reachOf {l : Launch} {D : va_G} {A : Nat → Prop} {K : Nat → Nat} {δ : Nat → ClassId} {sr ρ : Rf} {dy : va_W} {E : EE} (hE : EOK δ ρ dy E) {g : St} {a1 : Int32} {a2 : Int32} {z : Int32 × St} (hf : kF_reachOf E g a1 a2 = some z) : Ct l yX0_reachOf cX0_reachOf 3 (some .int) 8 184 D vwCl (kT δ) A (kW K δ sr ρ dy) [.ref (K 0), .int a1, .int a2] g (QI D vwCl A (kW K δ sr ρ dy) z.1 z.2) := by
  unfold kF_reachOf at hf
  refine ct_intro (own := RX0) (lv0 := [(0, .ref (K 0)), (1, .int a1), (2, .int a2)]) (by decide) rfl (Nat.le_of_ble_eq_true rfl) rfl ?_
  intro p e s m args below meth c X hr
  refine tw_aload_n X dX0_reachOf_0 rfl 0 rfl ?_
  refine tw_iconst (v := 0) X dX0_reachOf_1 rfl ?_
  obtain ⟨g1, hg1, hf⟩ := bnd hf
  refine kpX0_453_0 X hg1 dX0_reachOf_2 ?_
  refine tw_aload_n X dX0_reachOf_5 rfl 0 rfl ?_
  refine tw_iload_n X dX0_reachOf_6 rfl 1 rfl ?_
  refine tw_iload_n X dX0_reachOf_7 rfl 2 rfl ?_
  obtain ⟨g2, hg2, hf⟩ := bnd hf
  refine tw_callVv (As := [.int a1, .int a2]) (st := []) X (kC_reaches hE 6 _ _ _ _ hg2) kGX0_456 kI_X0_reaches ⟨Nat.le_of_ble_eq_true rfl, Nat.le_of_ble_eq_true rfl⟩ ⟨Nat.zero_le _, Nat.zero_le _⟩ 0 rfl rfl rfl rfl (Nat.le_of_ble_eq_true rfl) dX0_reachOf_8 ?_
  refine tw_aload_n X dX0_reachOf_11 rfl 0 rfl ?_
  refine kgX0_453_0 X  dX0_reachOf_12 ?_
  exact tw_iret X hr (prj1 hf) (prj2 hf) dX0_reachOf_15
noncomputable def kF_comes (E : EE) (g : St) (a1 : Int32) (a2 : Int32) : Option (Int32 × St) :=
  (kF_isPerson g a1).bind fun x1 =>
  if x1 = 0 then
    some ((-1 : Int32), g)
  else
    if (kF_isIn a2 (0 : Int32) (4 : Int32)) = 0 then
      some ((-1 : Int32), g)
    else
      (kF_reachOf E g a1 a2).bind (un2 fun y4a y4b =>
      some (y4a, y4b))
set_option maxHeartbeats 4000000 in
theorem kC_comes {l : Launch} {D : va_G} {A : Nat → Prop} {K : Nat → Nat} {δ : Nat → ClassId} {sr ρ : Rf} {dy : va_W} {E : EE} (hE : EOK δ ρ dy E) {g : St} {a1 : Int32} {a2 : Int32} {z : Int32 × St} (hf : kF_comes E g a1 a2 = some z) : Ct l yX0_comes cX0_comes 3 (some .int) 9 206 D vwCl (kT δ) A (kW K δ sr ρ dy) [.ref (K 0), .int a1, .int a2] g (QI D vwCl A (kW K δ sr ρ dy) z.1 z.2) := by
  unfold kF_comes at hf
  refine ct_intro (own := RX0) (lv0 := [(0, .ref (K 0)), (1, .int a1), (2, .int a2)]) (by decide) rfl (Nat.le_of_ble_eq_true rfl) rfl ?_
  intro p e s m args below meth c X hr
  refine tw_aload_n X dX0_comes_0 rfl 0 rfl ?_
  refine tw_iload_n X dX0_comes_1 rfl 1 rfl ?_
  obtain ⟨x1, hx1, hf⟩ := bnd hf
  refine tw_callVz (As := [.int a1]) (st := []) X (kC_isPerson hx1) kGX0_185 kI_X0_isPerson ⟨Nat.le_of_ble_eq_true rfl, Nat.le_of_ble_eq_true rfl⟩ ⟨Nat.zero_le _, Nat.zero_le _⟩ 0 rfl rfl rfl rfl (Nat.le_of_ble_eq_true rfl) dX0_comes_2 ?_
  intro hb2
  refine tw_if_eq (tgt := 26) X dX0_comes_5 rfl hf (fun q6 hf => ?_) (fun q6 hf => ?_)
  · clear q6
    refine tw_iconst (v := -1) X dX0_comes_26 rfl ?_
    exact tw_iret X hr (prj1 hf) (prj2 hf) dX0_comes_27
  · clear q6
    refine tw_iload_n X dX0_comes_8 rfl 2 rfl ?_
    refine tw_iconst (v := 0) X dX0_comes_9 rfl ?_
    refine tw_iconst (v := 4) X dX0_comes_10 rfl ?_
    refine tw_callSz (As := [.int a2, .int (0 : Int32), .int (4 : Int32)]) (st := []) X (kC_isIn (g := g) a2 (0 : Int32) (4 : Int32)) kGX0_149 kI_X0_isIn ⟨Nat.le_of_ble_eq_true rfl, Nat.le_of_ble_eq_true rfl⟩ ⟨Nat.zero_le _, Nat.zero_le _⟩ rfl rfl (Nat.le_of_ble_eq_true rfl) dX0_comes_11 ?_
    intro hb3
    refine tw_if_eq (tgt := 26) X dX0_comes_14 rfl hf (fun q5 hf => ?_) (fun q5 hf => ?_)
    · clear q5
      refine tw_iconst (v := -1) X dX0_comes_26 rfl ?_
      exact tw_iret X hr (prj1 hf) (prj2 hf) dX0_comes_27
    · clear q5
      refine tw_aload_n X dX0_comes_17 rfl 0 rfl ?_
      refine tw_iload_n X dX0_comes_18 rfl 1 rfl ?_
      refine tw_iload_n X dX0_comes_19 rfl 2 rfl ?_
      obtain ⟨⟨y4a, y4b⟩, hy4, hf⟩ := bnd hf
      dsimp only [un2] at hf
      refine tw_callVi (As := [.int a1, .int a2]) (st := []) X (kC_reachOf hE hy4) kGX0_459 kI_X0_reachOf ⟨Nat.le_of_ble_eq_true rfl, Nat.le_of_ble_eq_true rfl⟩ ⟨Nat.zero_le _, Nat.zero_le _⟩ 0 rfl rfl rfl rfl (Nat.le_of_ble_eq_true rfl) dX0_comes_20 ?_
      refine tw_goto (tgt := 27) X dX0_comes_23 rfl ?_
      exact tw_iret X hr (prj1 hf) (prj2 hf) dX0_comes_27
noncomputable def kF_dearest (E : EE) (g : St) (a1 : Int32) (a2 : Int32) : Option (Int32 × St) :=
  (kF_isPerson g a1).bind fun x1 =>
  if x1 = 0 then
    some ((-1 : Int32), g)
  else
    if (kF_isIn a2 (0 : Int32) (4 : Int32)) = 0 then
      some ((-1 : Int32), g)
    else
      (kF_reachOf E g a1 a2).bind (un2 fun y4a y4b =>
      iter (L := Int32 × Int32) (T := Int32 × St) (un2 fun s5a s5b => 
        if (8 : Int32) ≤ s5b then
          some (.inr (s5a, y4b))
        else
          Option.bind (α := Int32) (β := ((Int32 × Int32) ⊕ (Int32 × St)))
            (if ((y4a >>> (s5b &&& 31)) &&& (1 : Int32)) = (1 : Int32) then
              some (1 : Int32)
            else
              some (0 : Int32))
            (fun j8 => if j8 = 0 then
              some (.inl (s5a, (s5b + (1 : Int32))))
            else
              if s5a < 0 then
                some (.inl (s5b, (s5b + (1 : Int32))))
              else
                (rd (y4b 50) 8 s5b).bind fun x10 =>
                (rd (y4b 50) 8 s5a).bind fun x11 =>
                if x10 ≤ x11 then
                  some (.inl (s5a, (s5b + (1 : Int32))))
                else
                  some (.inl (s5b, (s5b + (1 : Int32)))))) ((-1 : Int32), (0 : Int32)))
set_option maxHeartbeats 4000000 in
theorem kC_dearest {l : Launch} {D : va_G} {A : Nat → Prop} {K : Nat → Nat} {δ : Nat → ClassId} {sr ρ : Rf} {dy : va_W} {E : EE} (hE : EOK δ ρ dy E) {g : St} {a1 : Int32} {a2 : Int32} {z : Int32 × St} (hf : kF_dearest E g a1 a2 = some z) : Ct l yX0_dearest cX0_dearest 7 (some .int) 9 206 D vwCl (kT δ) A (kW K δ sr ρ dy) [.ref (K 0), .int a1, .int a2] g (QI D vwCl A (kW K δ sr ρ dy) z.1 z.2) := by
  unfold kF_dearest at hf
  refine ct_intro (own := RX0) (lv0 := [(0, .ref (K 0)), (1, .int a1), (2, .int a2)]) (by decide) rfl (Nat.le_of_ble_eq_true rfl) rfl ?_
  intro p e s m args below meth c X hr
  refine tw_aload_n X dX0_dearest_0 rfl 0 rfl ?_
  refine tw_iload_n X dX0_dearest_1 rfl 1 rfl ?_
  obtain ⟨x1, hx1, hf⟩ := bnd hf
  refine tw_callVz (As := [.int a1]) (st := []) X (kC_isPerson hx1) kGX0_185 kI_X0_isPerson ⟨Nat.le_of_ble_eq_true rfl, Nat.le_of_ble_eq_true rfl⟩ ⟨Nat.zero_le _, Nat.zero_le _⟩ 0 rfl rfl rfl rfl (Nat.le_of_ble_eq_true rfl) dX0_dearest_2 ?_
  intro hb2
  refine tw_if_eq (tgt := 17) X dX0_dearest_5 rfl hf (fun q20 hf => ?_) (fun q20 hf => ?_)
  · clear q20
    refine tw_iconst (v := -1) X dX0_dearest_17 rfl ?_
    exact tw_iret X hr (prj1 hf) (prj2 hf) dX0_dearest_18
  · clear q20
    refine tw_iload_n X dX0_dearest_8 rfl 2 rfl ?_
    refine tw_iconst (v := 0) X dX0_dearest_9 rfl ?_
    refine tw_iconst (v := 4) X dX0_dearest_10 rfl ?_
    refine tw_callSz (As := [.int a2, .int (0 : Int32), .int (4 : Int32)]) (st := []) X (kC_isIn (g := g) a2 (0 : Int32) (4 : Int32)) kGX0_149 kI_X0_isIn ⟨Nat.le_of_ble_eq_true rfl, Nat.le_of_ble_eq_true rfl⟩ ⟨Nat.zero_le _, Nat.zero_le _⟩ rfl rfl (Nat.le_of_ble_eq_true rfl) dX0_dearest_11 ?_
    intro hb3
    refine tw_if_ne (tgt := 19) X dX0_dearest_14 rfl hf (fun q19 hf => ?_) (fun q19 hf => ?_)
    · clear q19
      refine tw_iconst (v := -1) X dX0_dearest_17 rfl ?_
      exact tw_iret X hr (prj1 hf) (prj2 hf) dX0_dearest_18
    · clear q19
      refine tw_aload_n X dX0_dearest_19 rfl 0 rfl ?_
      refine tw_iload_n X dX0_dearest_20 rfl 1 rfl ?_
      refine tw_iload_n X dX0_dearest_21 rfl 2 rfl ?_
      obtain ⟨⟨y4a, y4b⟩, hy4, hf⟩ := bnd hf
      dsimp only [un2] at hf
      refine tw_callVi (As := [.int a1, .int a2]) (st := []) X (kC_reachOf hE hy4) kGX0_459 kI_X0_reachOf ⟨Nat.le_of_ble_eq_true rfl, Nat.le_of_ble_eq_true rfl⟩ ⟨Nat.zero_le _, Nat.zero_le _⟩ 0 rfl rfl rfl rfl (Nat.le_of_ble_eq_true rfl) dX0_dearest_22 ?_
      refine tw_istore_n (lv' := [(3, .int y4a), (0, .ref (K 0)), (1, .int a1), (2, .int a2)]) X dX0_dearest_25 rfl (by decide) rfl ?_
      refine tw_iconst (v := -1) X dX0_dearest_26 rfl ?_
      refine tw_istore (lv' := [(4, .int (-1 : Int32)), (3, .int y4a), (0, .ref (K 0)), (1, .int a1), (2, .int a2)]) X dX0_dearest_27 (by decide) rfl ?_
      refine tw_iconst (v := 0) X dX0_dearest_29 rfl ?_
      refine tw_istore (lv' := [(5, .int (0 : Int32)), (4, .int (-1 : Int32)), (3, .int y4a), (0, .ref (K 0)), (1, .int a1), (2, .int a2)]) X dX0_dearest_30 (by decide) rfl ?_
      refine tw_sub [3, 2, 1, 0] (lv' := [(0, .ref (K 0)), (3, .int y4a), (4, .int (-1 : Int32)), (5, .int (0 : Int32))]) rfl ?_
      refine it_walk (P := un2 fun s5a s5b => TW p l e (rom 9 206) s m args below meth c (MQ below (QI D vwCl A (kW K δ sr ρ dy) z.1 z.2) args s 0 0 A) D vwCl A (kW K δ sr ρ dy) 7 0 0 y4b 32 [(0, .ref (K 0)), (3, .int y4a), (4, .int s5a), (5, .int s5b)] []) hf ?_
      rintro ⟨s5a, s5b⟩ zz18 hf hl6
      dsimp only [un2] at hf ⊢
      refine tw_iload X dX0_dearest_32 3 rfl ?_
      refine tw_bipush (v := 8) X dX0_dearest_34 rfl ?_
      refine tw_icmp_ge (tgt := 104) X dX0_dearest_36 rfl hf (fun q17 hf => ?_) (fun q17 hf => ?_)
      · clear q17
        refine tw_iload X dX0_dearest_104 2 rfl ?_
        have hf7 := leafR hf hl6
        exact tw_iret X hr (prj1 hf7) (prj2 hf7) dX0_dearest_106
      · clear q17
        refine tw_iload_n X dX0_dearest_39 rfl 1 rfl ?_
        refine tw_iload X dX0_dearest_40 3 rfl ?_
        refine tw_ishr X dX0_dearest_42 ?_
        refine tw_iconst (v := 1) X dX0_dearest_43 rfl ?_
        refine tw_iand X dX0_dearest_44 ?_
        refine tw_iconst (v := 1) X dX0_dearest_45 rfl ?_
        refine bj_walk (P := fun j8 : Int32 => TW p l e (rom 9 206) s m args below meth c (MQ below (QI D vwCl A (kW K δ sr ρ dy) z.1 z.2) args s 0 0 A) D vwCl A (kW K δ sr ρ dy) 7 0 0 y4b 54 [(0, .ref (K 0)), (3, .int y4a), (4, .int s5a), (5, .int s5b)] [.int j8]) hf ?_ ?_
        · intro j8 hf
          refine tw_istore (lv' := [(6, .int j8), (0, .ref (K 0)), (3, .int y4a), (4, .int s5a), (5, .int s5b)]) X dX0_dearest_54 (by decide) rfl ?_
          refine tw_iload X dX0_dearest_56 0 rfl ?_
          refine tw_if_eq (tgt := 94) X dX0_dearest_58 rfl hf (fun q14 hf => ?_) (fun q14 hf => ?_)
          · clear q14
            refine tw_iload X dX0_dearest_94 3 rfl ?_
            refine tw_istore (lv' := [(4, .int s5a), (6, .int j8), (0, .ref (K 0)), (3, .int y4a), (5, .int s5b)]) X dX0_dearest_96 (by decide) rfl ?_
            refine tw_iinc (q := 4) (v := (s5b + (1 : Int32))) (lv' := [(5, .int (s5b + (1 : Int32))), (4, .int s5a), (6, .int j8), (0, .ref (K 0)), (3, .int y4a)]) X dX0_dearest_98 rfl rfl (by decide) rfl ?_
            refine tw_goto (tgt := 32) X dX0_dearest_101 rfl ?_
            refine tw_sub [3, 4, 1, 0] (lv' := [(0, .ref (K 0)), (3, .int y4a), (4, .int s5a), (5, .int (s5b + (1 : Int32)))]) rfl ?_
            have hL := leafL hf hl6
            exact hL
          · clear q14
            refine tw_iload X dX0_dearest_61 3 rfl ?_
            refine tw_if_lt (tgt := 89) X dX0_dearest_63 rfl hf (fun q13 hf => ?_) (fun q13 hf => ?_)
            · clear q13
              refine tw_iload X dX0_dearest_89 4 rfl ?_
              refine tw_goto (tgt := 96) X dX0_dearest_91 rfl ?_
              refine tw_istore (lv' := [(4, .int s5b), (6, .int j8), (0, .ref (K 0)), (3, .int y4a), (5, .int s5b)]) X dX0_dearest_96 (by decide) rfl ?_
              refine tw_iinc (q := 4) (v := (s5b + (1 : Int32))) (lv' := [(5, .int (s5b + (1 : Int32))), (4, .int s5b), (6, .int j8), (0, .ref (K 0)), (3, .int y4a)]) X dX0_dearest_98 rfl rfl (by decide) rfl ?_
              refine tw_goto (tgt := 32) X dX0_dearest_101 rfl ?_
              refine tw_sub [3, 4, 1, 0] (lv' := [(0, .ref (K 0)), (3, .int y4a), (4, .int s5b), (5, .int (s5b + (1 : Int32)))]) rfl ?_
              have hL := leafL hf hl6
              exact hL
            · clear q13
              refine tw_aload_n X dX0_dearest_66 rfl 1 rfl ?_
              refine kgX0_47_0 X  dX0_dearest_67 ?_
              refine kgX0_198_3 X  dX0_dearest_70 ?_
              refine tw_iload X dX0_dearest_73 4 rfl ?_
              obtain ⟨x10, hx10, hf⟩ := bnd hf
              refine klX0_50 X hx10 dX0_dearest_75 ?_
              refine tw_aload_n X dX0_dearest_76 rfl 1 rfl ?_
              refine kgX0_47_0 X  dX0_dearest_77 ?_
              refine kgX0_198_3 X  dX0_dearest_80 ?_
              refine tw_iload X dX0_dearest_83 3 rfl ?_
              obtain ⟨x11, hx11, hf⟩ := bnd hf
              refine klX0_50 X hx11 dX0_dearest_85 ?_
              refine tw_icmp_le (tgt := 94) X dX0_dearest_86 rfl hf (fun q12 hf => ?_) (fun q12 hf => ?_)
              · clear q12
                refine tw_iload X dX0_dearest_94 3 rfl ?_
                refine tw_istore (lv' := [(4, .int s5a), (6, .int j8), (0, .ref (K 0)), (3, .int y4a), (5, .int s5b)]) X dX0_dearest_96 (by decide) rfl ?_
                refine tw_iinc (q := 4) (v := (s5b + (1 : Int32))) (lv' := [(5, .int (s5b + (1 : Int32))), (4, .int s5a), (6, .int j8), (0, .ref (K 0)), (3, .int y4a)]) X dX0_dearest_98 rfl rfl (by decide) rfl ?_
                refine tw_goto (tgt := 32) X dX0_dearest_101 rfl ?_
                refine tw_sub [3, 4, 1, 0] (lv' := [(0, .ref (K 0)), (3, .int y4a), (4, .int s5a), (5, .int (s5b + (1 : Int32)))]) rfl ?_
                have hL := leafL hf hl6
                exact hL
              · clear q12
                refine tw_iload X dX0_dearest_89 4 rfl ?_
                refine tw_goto (tgt := 96) X dX0_dearest_91 rfl ?_
                refine tw_istore (lv' := [(4, .int s5b), (6, .int j8), (0, .ref (K 0)), (3, .int y4a), (5, .int s5b)]) X dX0_dearest_96 (by decide) rfl ?_
                refine tw_iinc (q := 4) (v := (s5b + (1 : Int32))) (lv' := [(5, .int (s5b + (1 : Int32))), (4, .int s5b), (6, .int j8), (0, .ref (K 0)), (3, .int y4a)]) X dX0_dearest_98 rfl rfl (by decide) rfl ?_
                refine tw_goto (tgt := 32) X dX0_dearest_101 rfl ?_
                refine tw_sub [3, 4, 1, 0] (lv' := [(0, .ref (K 0)), (3, .int y4a), (4, .int s5b), (5, .int (s5b + (1 : Int32)))]) rfl ?_
                have hL := leafL hf hl6
                exact hL
        · intro zz16 hf hk9
          refine tw_icmp_ne (tgt := 53) X dX0_dearest_46 rfl hf (fun q15 hf => ?_) (fun q15 hf => ?_)
          · clear q15
            refine tw_iconst (v := 1) X dX0_dearest_49 rfl ?_
            refine tw_goto (tgt := 54) X dX0_dearest_50 rfl ?_
            have hL := hk9 _ hf
            exact hL
          · clear q15
            refine tw_iconst (v := 0) X dX0_dearest_53 rfl ?_
            have hL := hk9 _ hf
            exact hL
noncomputable def kF_valueOf (rc : St → Int32 → Int32 → Option (Int32 × St)) (E : EE) (g : St) (a1 : Int32) (a2 : Int32) (a3 : Int32) : Option (Int32 × St) :=
  (dv a2 (10 : Int32)).bind fun x1 =>
  (rd (g 46) 6 x1).bind fun x2 =>
  (kF_carry E g a2).bind (un2 fun y3a y3b =>
  (rc y3b ((1 : Int32) - a1) (a3 - (1 : Int32))).bind (un2 fun y4a y4b =>
  (kF_carryBack y4b a2 x2 y3a).bind fun g5 =>
  some (y4a, g5)))
set_option maxHeartbeats 4000000 in
theorem kC_valueOf {l : Launch} {D : va_G} {A : Nat → Prop} {K : Nat → Nat} {δ : Nat → ClassId} {sr ρ : Rf} {dy : va_W} {F Lo : Nat} {rc : St → Int32 → Int32 → Option (Int32 × St)} (hrec : ∀ (g : St) (b0 : Int32) (b1 : Int32) (z : Int32 × St), rc g b0 b1 = some z → Ct l yX0_worthOf cX0_worthOf 6 (some .int) F Lo D vwCl (kT δ) A (kW K δ sr ρ dy) [.ref (K 0), .int b0, .int b1] g (QI D vwCl A (kW K δ sr ρ dy) z.1 z.2)) {E : EE} (hE : EOK δ ρ dy E) {g : St} {a1 : Int32} {a2 : Int32} {a3 : Int32} {z : Int32 × St} (hf : kF_valueOf rc E g a1 a2 a3 = some z) : Ct l yX0_valueOf cX0_valueOf 7 (some .int) (F + 225) (Lo + 5190) D vwCl (kT δ) A (kW K δ sr ρ dy) [.ref (K 0), .int a1, .int a2, .int a3] g (QI D vwCl A (kW K δ sr ρ dy) z.1 z.2) := by
  unfold kF_valueOf at hf
  refine ct_intro (own := RX0) (lv0 := [(0, .ref (K 0)), (1, .int a1), (2, .int a2), (3, .int a3)]) (by decide) rfl (Nat.le_of_ble_eq_true rfl) rfl ?_
  intro p e s m args below meth c X hr
  refine tw_aload_n X dX0_valueOf_0 rfl 0 rfl ?_
  refine kgX0_47_0 X  dX0_valueOf_1 ?_
  refine kgX0_174_3 X  dX0_valueOf_4 ?_
  refine tw_iload_n X dX0_valueOf_7 rfl 2 rfl ?_
  refine tw_bipush (v := 10) X dX0_valueOf_8 rfl ?_
  obtain ⟨x1, hx1, hf⟩ := bnd hf
  refine tw_idivV X dX0_valueOf_10 hx1 ?_
  obtain ⟨x2, hx2, hf⟩ := bnd hf
  refine klX0_46 X hx2 dX0_valueOf_11 ?_
  refine tw_istore (lv' := [(4, .int x2), (0, .ref (K 0)), (1, .int a1), (2, .int a2), (3, .int a3)]) X dX0_valueOf_12 (by decide) rfl ?_
  refine tw_aload_n X dX0_valueOf_14 rfl 1 rfl ?_
  refine tw_iload_n X dX0_valueOf_15 rfl 3 rfl ?_
  obtain ⟨⟨y3a, y3b⟩, hy3, hf⟩ := bnd hf
  dsimp only [un2] at hf
  refine tw_callVi (As := [.int a2]) (st := []) X (kC_carry hE hy3) kGX0_392 kI_X0_carry (rom_le (by omega) (by omega)) ⟨Nat.zero_le _, Nat.zero_le _⟩ 0 rfl rfl rfl rfl (Nat.le_of_ble_eq_true rfl) dX0_valueOf_16 ?_
  refine tw_istore (lv' := [(5, .int y3a), (4, .int x2), (0, .ref (K 0)), (1, .int a1), (2, .int a2), (3, .int a3)]) X dX0_valueOf_19 (by decide) rfl ?_
  refine tw_aload_n X dX0_valueOf_21 rfl 2 rfl ?_
  refine tw_iconst (v := 1) X dX0_valueOf_22 rfl ?_
  refine tw_iload_n X dX0_valueOf_23 rfl 3 rfl ?_
  refine tw_isub X dX0_valueOf_24 ?_
  refine tw_iload_n X dX0_valueOf_25 rfl 5 rfl ?_
  refine tw_iconst (v := 1) X dX0_valueOf_26 rfl ?_
  refine tw_isub X dX0_valueOf_27 ?_
  obtain ⟨⟨y4a, y4b⟩, hy4, hf⟩ := bnd hf
  dsimp only [un2] at hf
  refine tw_callVi (As := [.int ((1 : Int32) - a1), .int (a3 - (1 : Int32))]) (st := []) X (hrec _ _ _ _ hy4) kGX0_465 kI_X0_worthOf (rom_le (by omega) (by omega)) ⟨Nat.zero_le _, Nat.zero_le _⟩ 0 rfl rfl rfl rfl (Nat.le_of_ble_eq_true rfl) dX0_valueOf_28 ?_
  refine tw_istore (lv' := [(6, .int y4a), (5, .int y3a), (4, .int x2), (0, .ref (K 0)), (1, .int a1), (2, .int a2), (3, .int a3)]) X dX0_valueOf_31 (by decide) rfl ?_
  refine tw_aload_n X dX0_valueOf_33 rfl 3 rfl ?_
  refine tw_iload_n X dX0_valueOf_34 rfl 5 rfl ?_
  refine tw_iload X dX0_valueOf_35 2 rfl ?_
  refine tw_iload X dX0_valueOf_37 1 rfl ?_
  obtain ⟨g5, hg5, hf⟩ := bnd hf
  refine tw_callVv (As := [.int a2, .int x2, .int y3a]) (st := []) X (kC_carryBack hg5) kGX0_413 kI_X0_carryBack (rom_le (by omega) (by omega)) ⟨Nat.zero_le _, Nat.zero_le _⟩ 0 rfl rfl rfl rfl (Nat.le_of_ble_eq_true rfl) dX0_valueOf_39 ?_
  refine tw_iload X dX0_valueOf_42 0 rfl ?_
  exact tw_iret X hr (prj1 hf) (prj2 hf) dX0_valueOf_44
noncomputable def kF_worthOf (E : EE) : Nat → St → Int32 → Int32 → Option (Int32 × St)
  | 0 => fun _ _ _ => none
  | d + 1 => fun g a1 a2 => let rc := kF_worthOf E d
  if a2 = 0 then
    some ((2 : Int32), g)
  else
    (kF_after g (-1 : Int32)).bind fun x1 =>
    iter (L := St × Int32 × Int32) (T := Int32 × St) (un3 fun s2a s2b s2c => 
      if (99 : Int32) ≤ s2c then
        some (.inr (s2b, s2a))
      else
        if s2b = a1 then
          some (.inr (s2b, s2a))
        else
          (kF_can E s2a s2c).bind (un2 fun y6a y6b =>
          Option.bind (α := St × Int32) (β := ((St × Int32 × Int32) ⊕ (Int32 × St)))
            (if y6a = 0 then
              some (y6b, s2b)
            else
              (kF_valueOf rc E y6b a1 s2c a2).bind (un2 fun y11a y11b =>
              Option.bind (α := Int32) (β := St × Int32)
                (if y11a = a1 then
                  some y11a
                else
                  if y11a = (2 : Int32) then
                    some y11a
                  else
                    some s2b)
                (fun j12 => some (y11b, j12))))
            (un2 fun j8a j8b => (kF_after j8a s2c).bind fun x10 =>
            some (.inl (j8a, j8b, x10))))) (g, ((1 : Int32) - a1), x1)
set_option maxHeartbeats 4000000 in
theorem kC_worthOf {l : Launch} {D : va_G} {A : Nat → Prop} {K : Nat → Nat} {δ : Nat → ClassId} {sr ρ : Rf} {dy : va_W} {E : EE} (hE : EOK δ ρ dy E) : ∀ (d : Nat) (g : St) (a1 : Int32) (a2 : Int32) (z : Int32 × St), kF_worthOf E d g a1 a2 = some z → Ct l yX0_worthOf cX0_worthOf 6 (some .int) (226 + 226 * d) (5210 + 5216 * d) D vwCl (kT δ) A (kW K δ sr ρ dy) [.ref (K 0), .int a1, .int a2] g (QI D vwCl A (kW K δ sr ρ dy) z.1 z.2) := by
  intro d
  induction d with
  | zero =>
    intro g a1 a2 z hf
    cases hf
  | succ d ih =>
    intro g a1 a2 z hf
    rw [kF_worthOf] at hf
    generalize hrc : kF_worthOf E d = rc at hf ih
    dsimp only at hf
    have hrec := ih
    generalize hF : (226 + 226 * d) = F at hrec
    generalize hLo : (5210 + 5216 * d) = Lo at hrec
    refine ct_intro (own := RX0) (lv0 := [(0, .ref (K 0)), (1, .int a1), (2, .int a2)]) (by decide) rfl (Nat.le_of_ble_eq_true rfl) rfl ?_
    intro p e s m args below meth c X hr
    refine tw_iload_n X dX0_worthOf_0 rfl 2 rfl ?_
    refine tw_if_ne (tgt := 6) X dX0_worthOf_1 rfl hf (fun q22 hf => ?_) (fun q22 hf => ?_)
    · clear q22
      refine tw_iconst (v := 2) X dX0_worthOf_4 rfl ?_
      exact tw_iret X hr (prj1 hf) (prj2 hf) dX0_worthOf_5
    · clear q22
      refine tw_iconst (v := 1) X dX0_worthOf_6 rfl ?_
      refine tw_iload_n X dX0_worthOf_7 rfl 1 rfl ?_
      refine tw_isub X dX0_worthOf_8 ?_
      refine tw_istore_n (lv' := [(3, .int ((1 : Int32) - a1)), (0, .ref (K 0)), (1, .int a1), (2, .int a2)]) X dX0_worthOf_9 rfl (by decide) rfl ?_
      refine tw_aload_n X dX0_worthOf_10 rfl 1 rfl ?_
      refine tw_iconst (v := -1) X dX0_worthOf_11 rfl ?_
      obtain ⟨x1, hx1, hf⟩ := bnd hf
      refine tw_callVi (As := [.int (-1 : Int32)]) (st := []) X (kC_after hx1) kGX0_386 kI_X0_after (rom_le (by omega) (by omega)) ⟨Nat.zero_le _, Nat.zero_le _⟩ 0 rfl rfl rfl rfl (Nat.le_of_ble_eq_true rfl) dX0_worthOf_12 ?_
      refine tw_istore (lv' := [(4, .int x1), (3, .int ((1 : Int32) - a1)), (0, .ref (K 0)), (1, .int a1), (2, .int a2)]) X dX0_worthOf_15 (by decide) rfl ?_
      refine tw_sub [2, 3, 4, 1, 0] (lv' := [(0, .ref (K 0)), (1, .int a1), (2, .int a2), (3, .int ((1 : Int32) - a1)), (4, .int x1)]) rfl ?_
      refine it_walk (P := un3 fun s2a s2b s2c => TW p l e (rom (226 + 226 * (d + 1)) (5210 + 5216 * (d + 1))) s m args below meth c (MQ below (QI D vwCl A (kW K δ sr ρ dy) z.1 z.2) args s 0 0 A) D vwCl A (kW K δ sr ρ dy) 6 0 0 s2a 17 [(0, .ref (K 0)), (1, .int a1), (2, .int a2), (3, .int s2b), (4, .int s2c)] []) hf ?_
      rintro ⟨s2a, s2b, s2c⟩ zz21 hf hl3
      dsimp only [un3] at hf ⊢
      refine tw_iload X dX0_worthOf_17 4 rfl ?_
      refine tw_bipush (v := 99) X dX0_worthOf_19 rfl ?_
      refine tw_icmp_ge (tgt := 81) X dX0_worthOf_21 rfl hf (fun q20 hf => ?_) (fun q20 hf => ?_)
      · clear q20
        refine tw_iload_n X dX0_worthOf_81 rfl 3 rfl ?_
        have hf4 := leafR hf hl3
        exact tw_iret X hr (prj1 hf4) (prj2 hf4) dX0_worthOf_82
      · clear q20
        refine tw_iload_n X dX0_worthOf_24 rfl 3 rfl ?_
        refine tw_iload_n X dX0_worthOf_25 rfl 1 rfl ?_
        refine tw_icmp_eq (tgt := 81) X dX0_worthOf_26 rfl hf (fun q19 hf => ?_) (fun q19 hf => ?_)
        · clear q19
          refine tw_iload_n X dX0_worthOf_81 rfl 3 rfl ?_
          have hf5 := leafR hf hl3
          exact tw_iret X hr (prj1 hf5) (prj2 hf5) dX0_worthOf_82
        · clear q19
          refine tw_aload_n X dX0_worthOf_29 rfl 0 rfl ?_
          refine tw_iload X dX0_worthOf_30 4 rfl ?_
          obtain ⟨⟨y6a, y6b⟩, hy6, hf⟩ := bnd hf
          dsimp only [un2] at hf
          refine tw_callVz (As := [.int s2c]) (st := []) X (kC_can hE hy6) kGX0_389 kI_X0_can (rom_le (by omega) (by omega)) ⟨Nat.zero_le _, Nat.zero_le _⟩ 0 rfl rfl rfl rfl (Nat.le_of_ble_eq_true rfl) dX0_worthOf_32 ?_
          intro hb7
          refine bj_walk (P := un2 fun j8a j8b => TW p l e (rom (226 + 226 * (d + 1)) (5210 + 5216 * (d + 1))) s m args below meth c (MQ below (QI D vwCl A (kW K δ sr ρ dy) z.1 z.2) args s 0 0 A) D vwCl A (kW K δ sr ρ dy) 6 0 0 j8a 70 [(0, .ref (K 0)), (1, .int a1), (2, .int a2), (3, .int j8b), (4, .int s2c)] []) hf ?_ ?_
          · rintro ⟨j8a, j8b⟩ hf
            dsimp only [un2] at hf ⊢
            refine tw_aload_n X dX0_worthOf_70 rfl 0 rfl ?_
            refine tw_iload X dX0_worthOf_71 4 rfl ?_
            obtain ⟨x10, hx10, hf⟩ := bnd hf
            refine tw_callVi (As := [.int s2c]) (st := []) X (kC_after hx10) kGX0_386 kI_X0_after (rom_le (by omega) (by omega)) ⟨Nat.zero_le _, Nat.zero_le _⟩ 0 rfl rfl rfl rfl (Nat.le_of_ble_eq_true rfl) dX0_worthOf_73 ?_
            refine tw_istore (lv' := [(4, .int x10), (0, .ref (K 0)), (1, .int a1), (2, .int a2), (3, .int j8b)]) X dX0_worthOf_76 (by decide) rfl ?_
            refine tw_goto (tgt := 17) X dX0_worthOf_78 rfl ?_
            refine tw_sub [1, 2, 3, 4, 0] (lv' := [(0, .ref (K 0)), (1, .int a1), (2, .int a2), (3, .int j8b), (4, .int x10)]) rfl ?_
            have hL := leafL hf hl3
            exact hL
          · intro zz18 hf hk9
            refine tw_if_ne (tgt := 41) X dX0_worthOf_35 rfl hf (fun q17 hf => ?_) (fun q17 hf => ?_)
            · clear q17
              refine tw_goto (tgt := 70) X dX0_worthOf_38 rfl ?_
              have hL := hk9 _ hf
              exact hL
            · clear q17
              refine tw_aload_n X dX0_worthOf_41 rfl 0 rfl ?_
              refine tw_iload_n X dX0_worthOf_42 rfl 1 rfl ?_
              refine tw_iload X dX0_worthOf_43 4 rfl ?_
              refine tw_iload_n X dX0_worthOf_45 rfl 2 rfl ?_
              obtain ⟨⟨y11a, y11b⟩, hy11, hf⟩ := bnd hf
              dsimp only [un2] at hf
              refine tw_callVi (As := [.int a1, .int s2c, .int a2]) (st := []) X (kC_valueOf hrec hE hy11) kGX0_462 kI_X0_valueOf (rom_le (by omega) (by omega)) ⟨Nat.zero_le _, Nat.zero_le _⟩ 0 rfl rfl rfl rfl (Nat.le_of_ble_eq_true rfl) dX0_worthOf_46 ?_
              refine tw_istore (lv' := [(5, .int y11a), (0, .ref (K 0)), (1, .int a1), (2, .int a2), (3, .int s2b), (4, .int s2c)]) X dX0_worthOf_49 (by decide) rfl ?_
              refine tw_iload X dX0_worthOf_51 0 rfl ?_
              refine tw_iload_n X dX0_worthOf_53 rfl 2 rfl ?_
              refine bj_walk (P := fun j12 : Int32 => TW p l e (rom (226 + 226 * (d + 1)) (5210 + 5216 * (d + 1))) s m args below meth c (MQ below (QI D vwCl A (kW K δ sr ρ dy) z.1 z.2) args s 0 0 A) D vwCl A (kW K δ sr ρ dy) 6 0 0 y11b 69 [(0, .ref (K 0)), (1, .int a1), (2, .int a2), (4, .int s2c)] [.int j12]) hf ?_ ?_
              · intro j12 hf
                refine tw_istore_n (lv' := [(3, .int j12), (0, .ref (K 0)), (1, .int a1), (2, .int a2), (4, .int s2c)]) X dX0_worthOf_69 rfl (by decide) rfl ?_
                refine tw_sub [1, 2, 3, 0, 4] (lv' := [(0, .ref (K 0)), (1, .int a1), (2, .int a2), (3, .int j12), (4, .int s2c)]) rfl ?_
                have hL := hk9 _ hf
                exact hL
              · intro zz16 hf hk13
                refine tw_icmp_eq (tgt := 63) X dX0_worthOf_54 rfl hf (fun q15 hf => ?_) (fun q15 hf => ?_)
                · clear q15
                  refine tw_iload X dX0_worthOf_63 0 rfl ?_
                  refine tw_goto (tgt := 69) X dX0_worthOf_65 rfl ?_
                  refine tw_sub [1, 2, 3, 5] (lv' := [(0, .ref (K 0)), (1, .int a1), (2, .int a2), (4, .int s2c)]) rfl ?_
                  have hL := hk13 _ hf
                  exact hL
                · clear q15
                  refine tw_iload X dX0_worthOf_57 0 rfl ?_
                  refine tw_iconst (v := 2) X dX0_worthOf_59 rfl ?_
                  refine tw_icmp_ne (tgt := 68) X dX0_worthOf_60 rfl hf (fun q14 hf => ?_) (fun q14 hf => ?_)
                  · clear q14
                    refine tw_iload X dX0_worthOf_63 0 rfl ?_
                    refine tw_goto (tgt := 69) X dX0_worthOf_65 rfl ?_
                    refine tw_sub [1, 2, 3, 5] (lv' := [(0, .ref (K 0)), (1, .int a1), (2, .int a2), (4, .int s2c)]) rfl ?_
                    have hL := hk13 _ hf
                    exact hL
                  · clear q14
                    refine tw_iload_n X dX0_worthOf_68 rfl 4 rfl ?_
                    refine tw_sub [1, 2, 3, 5] (lv' := [(0, .ref (K 0)), (1, .int a1), (2, .int a2), (4, .int s2c)]) rfl ?_
                    have hL := hk13 _ hf
                    exact hL
noncomputable def kF_game (E : EE) (g : St) (a1 : Int32) : Option (Int32 × St) :=
  if (kF_isIn a1 (1 : Int32) (6 : Int32)) = 0 then
    some ((-1 : Int32), g)
  else
    (kF_worthOf E 8 g (0 : Int32) a1).bind (un2 fun y2a y2b =>
    some (y2a, y2b))
set_option maxHeartbeats 4000000 in
theorem kC_game {l : Launch} {D : va_G} {A : Nat → Prop} {K : Nat → Nat} {δ : Nat → ClassId} {sr ρ : Rf} {dy : va_W} {E : EE} (hE : EOK δ ρ dy E) {g : St} {a1 : Int32} {z : Int32 × St} (hf : kF_game E g a1 = some z) : Ct l yX0_game cX0_game 2 (some .int) 2035 46963 D vwCl (kT δ) A (kW K δ sr ρ dy) [.ref (K 0), .int a1] g (QI D vwCl A (kW K δ sr ρ dy) z.1 z.2) := by
  unfold kF_game at hf
  refine ct_intro (own := RX0) (lv0 := [(0, .ref (K 0)), (1, .int a1)]) (by decide) rfl (Nat.le_of_ble_eq_true rfl) rfl ?_
  intro p e s m args below meth c X hr
  refine tw_iload_n X dX0_game_0 rfl 1 rfl ?_
  refine tw_iconst (v := 1) X dX0_game_1 rfl ?_
  refine tw_bipush (v := 6) X dX0_game_2 rfl ?_
  refine tw_callSz (As := [.int a1, .int (1 : Int32), .int (6 : Int32)]) (st := []) X (kC_isIn (g := g) a1 (1 : Int32) (6 : Int32)) kGX0_149 kI_X0_isIn ⟨Nat.le_of_ble_eq_true rfl, Nat.le_of_ble_eq_true rfl⟩ ⟨Nat.zero_le _, Nat.zero_le _⟩ rfl rfl (Nat.le_of_ble_eq_true rfl) dX0_game_4 ?_
  intro hb1
  refine tw_if_eq (tgt := 19) X dX0_game_7 rfl hf (fun q3 hf => ?_) (fun q3 hf => ?_)
  · clear q3
    refine tw_iconst (v := -1) X dX0_game_19 rfl ?_
    exact tw_iret X hr (prj1 hf) (prj2 hf) dX0_game_20
  · clear q3
    refine tw_aload_n X dX0_game_10 rfl 0 rfl ?_
    refine tw_iconst (v := 0) X dX0_game_11 rfl ?_
    refine tw_iload_n X dX0_game_12 rfl 1 rfl ?_
    obtain ⟨⟨y2a, y2b⟩, hy2, hf⟩ := bnd hf
    dsimp only [un2] at hf
    refine tw_callVi (As := [.int (0 : Int32), .int a1]) (st := []) X (kC_worthOf hE 8 _ _ _ _ hy2) kGX0_465 kI_X0_worthOf ⟨Nat.le_of_ble_eq_true rfl, Nat.le_of_ble_eq_true rfl⟩ ⟨Nat.zero_le _, Nat.zero_le _⟩ 0 rfl rfl rfl rfl (Nat.le_of_ble_eq_true rfl) dX0_game_13 ?_
    refine tw_goto (tgt := 20) X dX0_game_16 rfl ?_
    exact tw_iret X hr (prj1 hf) (prj2 hf) dX0_game_20
noncomputable def kF_play (E : EE) (g : St) (a1 : Int32) : Option (Int32 × St) :=
  if (kF_isIn a1 (1 : Int32) (6 : Int32)) = 0 then
    some ((-1 : Int32), g)
  else
    (kF_cans E g (-1 : Int32)).bind (un2 fun y2a y2b =>
    if 0 ≤ y2a then
      (kF_worthOf E 8 y2b (0 : Int32) a1).bind (un2 fun y3a y3b =>
      (kF_cans E y3b (-1 : Int32)).bind (un2 fun y4a y4b =>
      iter (L := St × Int32) (T := Int32 × St) (un2 fun s5a s5b => 
        (kF_valueOf (kF_worthOf E 8) E s5a (0 : Int32) s5b a1).bind (un2 fun y7a y7b =>
        if y7a = y3a then
          some (.inr (s5b, y7b))
        else
          (kF_cans E y7b s5b).bind (un2 fun y9a y9b =>
          some (.inl (y9b, y9a))))) (y4b, y4a)))
    else
      some ((-3 : Int32), y2b))
set_option maxHeartbeats 4000000 in
theorem kC_play {l : Launch} {D : va_G} {A : Nat → Prop} {K : Nat → Nat} {δ : Nat → ClassId} {sr ρ : Rf} {dy : va_W} {E : EE} (hE : EOK δ ρ dy E) {g : St} {a1 : Int32} {z : Int32 × St} (hf : kF_play E g a1 = some z) : Ct l yX0_play cX0_play 4 (some .int) 2260 52154 D vwCl (kT δ) A (kW K δ sr ρ dy) [.ref (K 0), .int a1] g (QI D vwCl A (kW K δ sr ρ dy) z.1 z.2) := by
  unfold kF_play at hf
  refine ct_intro (own := RX0) (lv0 := [(0, .ref (K 0)), (1, .int a1)]) (by decide) rfl (Nat.le_of_ble_eq_true rfl) rfl ?_
  intro p e s m args below meth c X hr
  refine tw_iload_n X dX0_play_0 rfl 1 rfl ?_
  refine tw_iconst (v := 1) X dX0_play_1 rfl ?_
  refine tw_bipush (v := 6) X dX0_play_2 rfl ?_
  refine tw_callSz (As := [.int a1, .int (1 : Int32), .int (6 : Int32)]) (st := []) X (kC_isIn (g := g) a1 (1 : Int32) (6 : Int32)) kGX0_149 kI_X0_isIn ⟨Nat.le_of_ble_eq_true rfl, Nat.le_of_ble_eq_true rfl⟩ ⟨Nat.zero_le _, Nat.zero_le _⟩ rfl rfl (Nat.le_of_ble_eq_true rfl) dX0_play_4 ?_
  intro hb1
  refine tw_if_ne (tgt := 12) X dX0_play_7 rfl hf (fun q13 hf => ?_) (fun q13 hf => ?_)
  · clear q13
    refine tw_iconst (v := -1) X dX0_play_10 rfl ?_
    exact tw_iret X hr (prj1 hf) (prj2 hf) dX0_play_11
  · clear q13
    refine tw_aload_n X dX0_play_12 rfl 0 rfl ?_
    refine tw_iconst (v := -1) X dX0_play_13 rfl ?_
    obtain ⟨⟨y2a, y2b⟩, hy2, hf⟩ := bnd hf
    dsimp only [un2] at hf
    refine tw_callVi (As := [.int (-1 : Int32)]) (st := []) X (kC_cans hE hy2) kGX0_468 kI_X0_cans ⟨Nat.le_of_ble_eq_true rfl, Nat.le_of_ble_eq_true rfl⟩ ⟨Nat.zero_le _, Nat.zero_le _⟩ 0 rfl rfl rfl rfl (Nat.le_of_ble_eq_true rfl) dX0_play_14 ?_
    refine tw_if_ge (tgt := 23) X dX0_play_17 rfl hf (fun q12 hf => ?_) (fun q12 hf => ?_)
    · clear q12
      refine tw_aload_n X dX0_play_23 rfl 0 rfl ?_
      refine tw_iconst (v := 0) X dX0_play_24 rfl ?_
      refine tw_iload_n X dX0_play_25 rfl 1 rfl ?_
      obtain ⟨⟨y3a, y3b⟩, hy3, hf⟩ := bnd hf
      dsimp only [un2] at hf
      refine tw_callVi (As := [.int (0 : Int32), .int a1]) (st := []) X (kC_worthOf hE 8 _ _ _ _ hy3) kGX0_465 kI_X0_worthOf ⟨Nat.le_of_ble_eq_true rfl, Nat.le_of_ble_eq_true rfl⟩ ⟨Nat.zero_le _, Nat.zero_le _⟩ 0 rfl rfl rfl rfl (Nat.le_of_ble_eq_true rfl) dX0_play_26 ?_
      refine tw_istore_n (lv' := [(2, .int y3a), (0, .ref (K 0)), (1, .int a1)]) X dX0_play_29 rfl (by decide) rfl ?_
      refine tw_aload_n X dX0_play_30 rfl 1 rfl ?_
      refine tw_iconst (v := -1) X dX0_play_31 rfl ?_
      obtain ⟨⟨y4a, y4b⟩, hy4, hf⟩ := bnd hf
      dsimp only [un2] at hf
      refine tw_callVi (As := [.int (-1 : Int32)]) (st := []) X (kC_cans hE hy4) kGX0_468 kI_X0_cans ⟨Nat.le_of_ble_eq_true rfl, Nat.le_of_ble_eq_true rfl⟩ ⟨Nat.zero_le _, Nat.zero_le _⟩ 0 rfl rfl rfl rfl (Nat.le_of_ble_eq_true rfl) dX0_play_32 ?_
      refine tw_istore_n (lv' := [(3, .int y4a), (2, .int y3a), (0, .ref (K 0)), (1, .int a1)]) X dX0_play_35 rfl (by decide) rfl ?_
      refine tw_sub [2, 3, 1, 0] (lv' := [(0, .ref (K 0)), (1, .int a1), (2, .int y3a), (3, .int y4a)]) rfl ?_
      refine it_walk (P := un2 fun s5a s5b => TW p l e (rom 2260 52154) s m args below meth c (MQ below (QI D vwCl A (kW K δ sr ρ dy) z.1 z.2) args s 0 0 A) D vwCl A (kW K δ sr ρ dy) 4 0 0 s5a 36 [(0, .ref (K 0)), (1, .int a1), (2, .int y3a), (3, .int s5b)] []) hf ?_
      rintro ⟨s5a, s5b⟩ zz11 hf hl6
      dsimp only [un2] at hf ⊢
      refine tw_aload_n X dX0_play_36 rfl 0 rfl ?_
      refine tw_iconst (v := 0) X dX0_play_37 rfl ?_
      refine tw_iload_n X dX0_play_38 rfl 3 rfl ?_
      refine tw_iload_n X dX0_play_39 rfl 1 rfl ?_
      obtain ⟨⟨y7a, y7b⟩, hy7, hf⟩ := bnd hf
      dsimp only [un2] at hf
      refine tw_callVi (As := [.int (0 : Int32), .int s5b, .int a1]) (st := []) X (kC_valueOf (kC_worthOf hE 8) hE hy7) kGX0_462 kI_X0_valueOf ⟨Nat.le_of_ble_eq_true rfl, Nat.le_of_ble_eq_true rfl⟩ ⟨Nat.zero_le _, Nat.zero_le _⟩ 0 rfl rfl rfl rfl (Nat.le_of_ble_eq_true rfl) dX0_play_40 ?_
      refine tw_iload_n X dX0_play_43 rfl 2 rfl ?_
      refine tw_icmp_eq (tgt := 56) X dX0_play_44 rfl hf (fun q10 hf => ?_) (fun q10 hf => ?_)
      · clear q10
        refine tw_iload_n X dX0_play_56 rfl 3 rfl ?_
        have hf8 := leafR hf hl6
        exact tw_iret X hr (prj1 hf8) (prj2 hf8) dX0_play_57
      · clear q10
        refine tw_aload_n X dX0_play_47 rfl 0 rfl ?_
        refine tw_iload_n X dX0_play_48 rfl 3 rfl ?_
        obtain ⟨⟨y9a, y9b⟩, hy9, hf⟩ := bnd hf
        dsimp only [un2] at hf
        refine tw_callVi (As := [.int s5b]) (st := []) X (kC_cans hE hy9) kGX0_468 kI_X0_cans ⟨Nat.le_of_ble_eq_true rfl, Nat.le_of_ble_eq_true rfl⟩ ⟨Nat.zero_le _, Nat.zero_le _⟩ 0 rfl rfl rfl rfl (Nat.le_of_ble_eq_true rfl) dX0_play_49 ?_
        refine tw_istore_n (lv' := [(3, .int y9a), (0, .ref (K 0)), (1, .int a1), (2, .int y3a)]) X dX0_play_52 rfl (by decide) rfl ?_
        refine tw_goto (tgt := 36) X dX0_play_53 rfl ?_
        refine tw_sub [1, 2, 3, 0] (lv' := [(0, .ref (K 0)), (1, .int a1), (2, .int y3a), (3, .int y9a)]) rfl ?_
        have hL := leafL hf hl6
        exact hL
    · clear q12
      refine tw_bipush (v := -3) X dX0_play_20 rfl ?_
      exact tw_iret X hr (prj1 hf) (prj2 hf) dX0_play_22
noncomputable def kF_report (g : St) (a1 : Int32) (a2 : Int32) (a3 : Int32) : Option (Int32 × St) :=
  if (kF_isIn a1 (0 : Int32) (99 : Int32)) = 0 then
    some ((-1 : Int32), g)
  else
    if (kF_isIn a2 (0 : Int32) (99 : Int32)) = 0 then
      some ((-1 : Int32), g)
    else
      if (kF_isIn a3 (0 : Int32) (999 : Int32)) = 0 then
        some ((-1 : Int32), g)
      else
        if (g 40 2) = (6 : Int32) then
          some ((-2 : Int32), g)
        else
          (wr g 52 6 (g 40 2) a1).bind fun g4 =>
          (wr g4 53 6 (g4 40 2) a2).bind fun g5 =>
          (wr g5 54 6 (g5 40 2) a3).bind fun g6 =>
          (pf g6 40 2 ((g6 40 2) + (1 : Int32))).bind fun g7 =>
          some (((g7 40 2) - (1 : Int32)), g7)
set_option maxHeartbeats 4000000 in
theorem kC_report {l : Launch} {D : va_G} {A : Nat → Prop} {K : Nat → Nat} {δ : Nat → ClassId} {sr ρ : Rf} {dy : va_W} {g : St} {a1 : Int32} {a2 : Int32} {a3 : Int32} {z : Int32 × St} (hf : kF_report g a1 a2 a3 = some z) : Ct l yX0_report cX0_report 4 (some .int) 1 22 D vwCl (kT δ) A (kW K δ sr ρ dy) [.ref (K 0), .int a1, .int a2, .int a3] g (QI D vwCl A (kW K δ sr ρ dy) z.1 z.2) := by
  unfold kF_report at hf
  refine ct_intro (own := RX0) (lv0 := [(0, .ref (K 0)), (1, .int a1), (2, .int a2), (3, .int a3)]) (by decide) rfl (Nat.le_of_ble_eq_true rfl) rfl ?_
  intro p e s m args below meth c X hr
  refine tw_iload_n X dX0_report_0 rfl 1 rfl ?_
  refine tw_iconst (v := 0) X dX0_report_1 rfl ?_
  refine tw_bipush (v := 99) X dX0_report_2 rfl ?_
  refine tw_callSz (As := [.int a1, .int (0 : Int32), .int (99 : Int32)]) (st := []) X (kC_isIn (g := g) a1 (0 : Int32) (99 : Int32)) kGX0_149 kI_X0_isIn ⟨Nat.le_of_ble_eq_true rfl, Nat.le_of_ble_eq_true rfl⟩ ⟨Nat.zero_le _, Nat.zero_le _⟩ rfl rfl (Nat.le_of_ble_eq_true rfl) dX0_report_4 ?_
  intro hb1
  refine tw_if_eq (tgt := 31) X dX0_report_7 rfl hf (fun q11 hf => ?_) (fun q11 hf => ?_)
  · clear q11
    refine tw_iconst (v := -1) X dX0_report_31 rfl ?_
    exact tw_iret X hr (prj1 hf) (prj2 hf) dX0_report_32
  · clear q11
    refine tw_iload_n X dX0_report_10 rfl 2 rfl ?_
    refine tw_iconst (v := 0) X dX0_report_11 rfl ?_
    refine tw_bipush (v := 99) X dX0_report_12 rfl ?_
    refine tw_callSz (As := [.int a2, .int (0 : Int32), .int (99 : Int32)]) (st := []) X (kC_isIn (g := g) a2 (0 : Int32) (99 : Int32)) kGX0_149 kI_X0_isIn ⟨Nat.le_of_ble_eq_true rfl, Nat.le_of_ble_eq_true rfl⟩ ⟨Nat.zero_le _, Nat.zero_le _⟩ rfl rfl (Nat.le_of_ble_eq_true rfl) dX0_report_14 ?_
    intro hb2
    refine tw_if_eq (tgt := 31) X dX0_report_17 rfl hf (fun q10 hf => ?_) (fun q10 hf => ?_)
    · clear q10
      refine tw_iconst (v := -1) X dX0_report_31 rfl ?_
      exact tw_iret X hr (prj1 hf) (prj2 hf) dX0_report_32
    · clear q10
      refine tw_iload_n X dX0_report_20 rfl 3 rfl ?_
      refine tw_iconst (v := 0) X dX0_report_21 rfl ?_
      refine tw_sipush (v := 999) X dX0_report_22 rfl ?_
      refine tw_callSz (As := [.int a3, .int (0 : Int32), .int (999 : Int32)]) (st := []) X (kC_isIn (g := g) a3 (0 : Int32) (999 : Int32)) kGX0_149 kI_X0_isIn ⟨Nat.le_of_ble_eq_true rfl, Nat.le_of_ble_eq_true rfl⟩ ⟨Nat.zero_le _, Nat.zero_le _⟩ rfl rfl (Nat.le_of_ble_eq_true rfl) dX0_report_25 ?_
      intro hb3
      refine tw_if_ne (tgt := 33) X dX0_report_28 rfl hf (fun q9 hf => ?_) (fun q9 hf => ?_)
      · clear q9
        refine tw_iconst (v := -1) X dX0_report_31 rfl ?_
        exact tw_iret X hr (prj1 hf) (prj2 hf) dX0_report_32
      · clear q9
        refine tw_aload_n X dX0_report_33 rfl 0 rfl ?_
        refine kgX0_47_0 X  dX0_report_34 ?_
        refine kgX0_471_3 X  dX0_report_37 ?_
        refine tw_bipush (v := 6) X dX0_report_40 rfl ?_
        refine tw_icmp_ne (tgt := 48) X dX0_report_42 rfl hf (fun q8 hf => ?_) (fun q8 hf => ?_)
        · clear q8
          refine tw_bipush (v := -2) X dX0_report_45 rfl ?_
          exact tw_iret X hr (prj1 hf) (prj2 hf) dX0_report_47
        · clear q8
          refine tw_aload_n X dX0_report_48 rfl 0 rfl ?_
          refine kgX0_47_0 X  dX0_report_49 ?_
          refine kgX0_474_3 X  dX0_report_52 ?_
          refine tw_aload_n X dX0_report_55 rfl 0 rfl ?_
          refine kgX0_47_0 X  dX0_report_56 ?_
          refine kgX0_471_3 X  dX0_report_59 ?_
          refine tw_iload_n X dX0_report_62 rfl 1 rfl ?_
          obtain ⟨g4, hg4, hf⟩ := bnd hf
          refine ksX0_52 X hg4 dX0_report_63 ?_
          refine tw_aload_n X dX0_report_64 rfl 0 rfl ?_
          refine kgX0_47_0 X  dX0_report_65 ?_
          refine kgX0_477_3 X  dX0_report_68 ?_
          refine tw_aload_n X dX0_report_71 rfl 0 rfl ?_
          refine kgX0_47_0 X  dX0_report_72 ?_
          refine kgX0_471_3 X  dX0_report_75 ?_
          refine tw_iload_n X dX0_report_78 rfl 2 rfl ?_
          obtain ⟨g5, hg5, hf⟩ := bnd hf
          refine ksX0_53 X hg5 dX0_report_79 ?_
          refine tw_aload_n X dX0_report_80 rfl 0 rfl ?_
          refine kgX0_47_0 X  dX0_report_81 ?_
          refine kgX0_480_3 X  dX0_report_84 ?_
          refine tw_aload_n X dX0_report_87 rfl 0 rfl ?_
          refine kgX0_47_0 X  dX0_report_88 ?_
          refine kgX0_471_3 X  dX0_report_91 ?_
          refine tw_iload_n X dX0_report_94 rfl 3 rfl ?_
          obtain ⟨g6, hg6, hf⟩ := bnd hf
          refine ksX0_54 X hg6 dX0_report_95 ?_
          refine tw_aload_n X dX0_report_96 rfl 0 rfl ?_
          refine kgX0_47_0 X  dX0_report_97 ?_
          refine tw_dup X dX0_report_100 rfl ?_
          refine kgX0_471_3 X  dX0_report_101 ?_
          refine tw_iconst (v := 1) X dX0_report_104 rfl ?_
          refine tw_iadd X dX0_report_105 ?_
          obtain ⟨g7, hg7, hf⟩ := bnd hf
          refine kpX0_471_3 X hg7 dX0_report_106 ?_
          refine tw_aload_n X dX0_report_109 rfl 0 rfl ?_
          refine kgX0_47_0 X  dX0_report_110 ?_
          refine kgX0_471_3 X  dX0_report_113 ?_
          refine tw_iconst (v := 1) X dX0_report_116 rfl ?_
          refine tw_isub X dX0_report_117 ?_
          exact tw_iret X hr (prj1 hf) (prj2 hf) dX0_report_118
noncomputable def kF_forget (g : St) : Option (Int32 × St) :=
  (pf g 40 2 (0 : Int32)).bind fun g1 =>
  some ((g 40 2), g1)
set_option maxHeartbeats 4000000 in
theorem kC_forget {l : Launch} {D : va_G} {A : Nat → Prop} {K : Nat → Nat} {δ : Nat → ClassId} {sr ρ : Rf} {dy : va_W} {g : St} {z : Int32 × St} (hf : kF_forget g = some z) : Ct l yX0_forget cX0_forget 2 (some .int) 0 0 D vwCl (kT δ) A (kW K δ sr ρ dy) [.ref (K 0)] g (QI D vwCl A (kW K δ sr ρ dy) z.1 z.2) := by
  unfold kF_forget at hf
  refine ct_intro (own := RX0) (lv0 := [(0, .ref (K 0))]) (by decide) rfl (Nat.le_of_ble_eq_true rfl) rfl ?_
  intro p e s m args below meth c X hr
  refine tw_aload_n X dX0_forget_0 rfl 0 rfl ?_
  refine kgX0_47_0 X  dX0_forget_1 ?_
  refine kgX0_471_3 X  dX0_forget_4 ?_
  refine tw_istore_n (lv' := [(1, .int (g 40 2)), (0, .ref (K 0))]) X dX0_forget_7 rfl (by decide) rfl ?_
  refine tw_aload_n X dX0_forget_8 rfl 1 rfl ?_
  refine kgX0_47_0 X  dX0_forget_9 ?_
  refine tw_iconst (v := 0) X dX0_forget_12 rfl ?_
  obtain ⟨g1, hg1, hf⟩ := bnd hf
  refine kpX0_471_3 X hg1 dX0_forget_13 ?_
  refine tw_iload_n X dX0_forget_16 rfl 0 rfl ?_
  exact tw_iret X hr (prj1 hf) (prj2 hf) dX0_forget_17
noncomputable def kF_isSo (g : St) (a1 : Int32) (a2 : Int32) (a3 : Int32) : Option (Int32) :=
  (rd (g 53) 6 a1).bind fun x1 =>
  (rd (g 52) 6 a1).bind fun x2 =>
  (rd (g 54) 6 a1).bind fun x3 =>
  if ((a2 * (if (0 : Int32) < (x1 - x2) then (x1 - x2) else (0 : Int32))) + a3) = x3 then
    some (1 : Int32)
  else
    some (0 : Int32)
set_option maxHeartbeats 4000000 in
theorem kC_isSo {l : Launch} {D : va_G} {A : Nat → Prop} {K : Nat → Nat} {δ : Nat → ClassId} {sr ρ : Rf} {dy : va_W} {g : St} {a1 : Int32} {a2 : Int32} {a3 : Int32} {z : Int32} (hf : kF_isSo g a1 a2 a3 = some z) : Ct l yX0_isSo cX0_isSo 4 (some .boolean) 1 40 D vwCl (kT δ) A (kW K δ sr ρ dy) [.ref (K 0), .int a1, .int a2, .int a3] g (QZ D vwCl A (kW K δ sr ρ dy) z g) := by
  unfold kF_isSo at hf
  refine ct_intro (own := RX0) (lv0 := [(0, .ref (K 0)), (1, .int a1), (2, .int a2), (3, .int a3)]) (by decide) rfl (Nat.le_of_ble_eq_true rfl) rfl ?_
  intro p e s m args below meth c X hr
  refine tw_iload_n X dX0_isSo_0 rfl 2 rfl ?_
  refine tw_iconst (v := 0) X dX0_isSo_1 rfl ?_
  refine tw_aload_n X dX0_isSo_2 rfl 0 rfl ?_
  refine kgX0_47_0 X  dX0_isSo_3 ?_
  refine kgX0_477_3 X  dX0_isSo_6 ?_
  refine tw_iload_n X dX0_isSo_9 rfl 1 rfl ?_
  obtain ⟨x1, hx1, hf⟩ := bnd hf
  refine klX0_53 X hx1 dX0_isSo_10 ?_
  refine tw_aload_n X dX0_isSo_11 rfl 0 rfl ?_
  refine kgX0_47_0 X  dX0_isSo_12 ?_
  refine kgX0_474_3 X  dX0_isSo_15 ?_
  refine tw_iload_n X dX0_isSo_18 rfl 1 rfl ?_
  obtain ⟨x2, hx2, hf⟩ := bnd hf
  refine klX0_52 X hx2 dX0_isSo_19 ?_
  refine tw_isub X dX0_isSo_20 ?_
  refine tw_mmax X q597 ⟨Nat.le_of_ble_eq_true rfl, Nat.le_of_ble_eq_true rfl⟩ ⟨Nat.zero_le _, Nat.zero_le _⟩ (Nat.le_of_ble_eq_true rfl) dX0_isSo_21 ?_
  refine tw_imul X dX0_isSo_24 ?_
  refine tw_iload_n X dX0_isSo_25 rfl 3 rfl ?_
  refine tw_iadd X dX0_isSo_26 ?_
  refine tw_aload_n X dX0_isSo_27 rfl 0 rfl ?_
  refine kgX0_47_0 X  dX0_isSo_28 ?_
  refine kgX0_480_3 X  dX0_isSo_31 ?_
  refine tw_iload_n X dX0_isSo_34 rfl 1 rfl ?_
  obtain ⟨x3, hx3, hf⟩ := bnd hf
  refine klX0_54 X hx3 dX0_isSo_35 ?_
  refine tw_icmp_ne (tgt := 43) X dX0_isSo_36 rfl hf (fun q4 hf => ?_) (fun q4 hf => ?_)
  · clear q4
    refine tw_iconst (v := 1) X dX0_isSo_39 rfl ?_
    refine tw_goto (tgt := 44) X dX0_isSo_40 rfl ?_
    exact tw_zret X hr (Or.inr rfl) (Option.some.inj hf) rfl dX0_isSo_44
  · clear q4
    refine tw_iconst (v := 0) X dX0_isSo_43 rfl ?_
    exact tw_zret X hr (Or.inl rfl) (Option.some.inj hf) rfl dX0_isSo_44
noncomputable def kF_fitsBut (g : St) (a1 : Int32) : Option (Int32 × St) :=
  iter (L := St × Int32 × Int32) (T := Int32 × St) (un3 fun s1a s1b s1c => 
    if s1c < 0 then
      some (.inr (s1b, s1a))
    else
      iter (L := Int32) (T := ((St × Int32 × Int32) ⊕ (Int32 × St))) (fun s4 => 
        if (s1a 40 2) ≤ s4 then
          (pf s1a 0 26 s1c).bind fun g6 =>
          some (.inr (.inl (g6, (s1b + (1 : Int32)), (s1c + (-1 : Int32)))))
        else
          if s4 = a1 then
            some (.inl (s4 + (1 : Int32)))
          else
            (dv s1c (51 : Int32)).bind fun x8 =>
            (rm s1c (51 : Int32)).bind fun x9 =>
            (kF_isSo s1a s4 x8 x9).bind fun x10 =>
            if x10 = 0 then
              some (.inr (.inl (s1a, s1b, (s1c + (-1 : Int32)))))
            else
              some (.inl (s4 + (1 : Int32)))) (0 : Int32)) (g, (0 : Int32), (203 : Int32))
set_option maxHeartbeats 4000000 in
theorem kC_fitsBut {l : Launch} {D : va_G} {A : Nat → Prop} {K : Nat → Nat} {δ : Nat → ClassId} {sr ρ : Rf} {dy : va_W} {g : St} {a1 : Int32} {z : Int32 × St} (hf : kF_fitsBut g a1 = some z) : Ct l yX0_fitsBut cX0_fitsBut 5 (some .int) 2 63 D vwCl (kT δ) A (kW K δ sr ρ dy) [.ref (K 0), .int a1] g (QI D vwCl A (kW K δ sr ρ dy) z.1 z.2) := by
  unfold kF_fitsBut at hf
  refine ct_intro (own := RX0) (lv0 := [(0, .ref (K 0)), (1, .int a1)]) (by decide) rfl (Nat.le_of_ble_eq_true rfl) rfl ?_
  intro p e s m args below meth c X hr
  refine tw_iconst (v := 0) X dX0_fitsBut_0 rfl ?_
  refine tw_istore_n (lv' := [(2, .int (0 : Int32)), (0, .ref (K 0)), (1, .int a1)]) X dX0_fitsBut_1 rfl (by decide) rfl ?_
  refine tw_sipush (v := 203) X dX0_fitsBut_2 rfl ?_
  refine tw_istore_n (lv' := [(3, .int (203 : Int32)), (2, .int (0 : Int32)), (0, .ref (K 0)), (1, .int a1)]) X dX0_fitsBut_5 rfl (by decide) rfl ?_
  refine tw_sub [2, 3, 1, 0] (lv' := [(0, .ref (K 0)), (1, .int a1), (2, .int (0 : Int32)), (3, .int (203 : Int32))]) rfl ?_
  refine it_walk (P := un3 fun s1a s1b s1c => TW p l e (rom 2 63) s m args below meth c (MQ below (QI D vwCl A (kW K δ sr ρ dy) z.1 z.2) args s 0 0 A) D vwCl A (kW K δ sr ρ dy) 5 0 0 s1a 6 [(0, .ref (K 0)), (1, .int a1), (2, .int s1b), (3, .int s1c)] []) hf ?_
  rintro ⟨s1a, s1b, s1c⟩ zz18 hf hl2
  dsimp only [un3] at hf ⊢
  refine tw_iload_n X dX0_fitsBut_6 rfl 3 rfl ?_
  refine tw_if_lt (tgt := 71) X dX0_fitsBut_7 rfl hf (fun q17 hf => ?_) (fun q17 hf => ?_)
  · clear q17
    refine tw_iload_n X dX0_fitsBut_71 rfl 2 rfl ?_
    have hf3 := leafR hf hl2
    exact tw_iret X hr (prj1 hf3) (prj2 hf3) dX0_fitsBut_72
  · clear q17
    refine tw_iconst (v := 0) X dX0_fitsBut_10 rfl ?_
    refine tw_istore (lv' := [(4, .int (0 : Int32)), (0, .ref (K 0)), (1, .int a1), (2, .int s1b), (3, .int s1c)]) X dX0_fitsBut_11 (by decide) rfl ?_
    refine tw_sub [1, 2, 3, 4, 0] (lv' := [(0, .ref (K 0)), (1, .int a1), (2, .int s1b), (3, .int s1c), (4, .int (0 : Int32))]) rfl ?_
    refine it_walk (P := fun s4 : Int32 => TW p l e (rom 2 63) s m args below meth c (MQ below (QI D vwCl A (kW K δ sr ρ dy) z.1 z.2) args s 0 0 A) D vwCl A (kW K δ sr ρ dy) 5 0 0 s1a 13 [(0, .ref (K 0)), (1, .int a1), (2, .int s1b), (3, .int s1c), (4, .int s4)] []) hf ?_
    intro s4 zz16 hf hl5
    refine tw_iload X dX0_fitsBut_13 4 rfl ?_
    refine tw_aload_n X dX0_fitsBut_15 rfl 0 rfl ?_
    refine kgX0_47_0 X  dX0_fitsBut_16 ?_
    refine kgX0_471_3 X  dX0_fitsBut_19 ?_
    refine tw_icmp_ge (tgt := 57) X dX0_fitsBut_22 rfl hf (fun q15 hf => ?_) (fun q15 hf => ?_)
    · clear q15
      refine tw_aload_n X dX0_fitsBut_57 rfl 0 rfl ?_
      refine tw_iload_n X dX0_fitsBut_58 rfl 3 rfl ?_
      obtain ⟨g6, hg6, hf⟩ := bnd hf
      refine kpX0_486_0 X hg6 dX0_fitsBut_59 ?_
      refine tw_iinc (q := 2) (v := (s1b + (1 : Int32))) (lv' := [(2, .int (s1b + (1 : Int32))), (0, .ref (K 0)), (1, .int a1), (3, .int s1c), (4, .int s4)]) X dX0_fitsBut_62 rfl rfl (by decide) rfl ?_
      refine tw_iinc (q := 3) (v := (s1c + (-1 : Int32))) (lv' := [(3, .int (s1c + (-1 : Int32))), (2, .int (s1b + (1 : Int32))), (0, .ref (K 0)), (1, .int a1), (4, .int s4)]) X dX0_fitsBut_65 rfl rfl (by decide) rfl ?_
      refine tw_goto (tgt := 6) X dX0_fitsBut_68 rfl ?_
      have hf7 := leafR hf hl5
      refine tw_sub [2, 3, 1, 0] (lv' := [(0, .ref (K 0)), (1, .int a1), (2, .int (s1b + (1 : Int32))), (3, .int (s1c + (-1 : Int32)))]) rfl ?_
      have hL := leafL hf7 hl2
      exact hL
    · clear q15
      refine tw_iload X dX0_fitsBut_25 4 rfl ?_
      refine tw_iload_n X dX0_fitsBut_27 rfl 1 rfl ?_
      refine tw_icmp_eq (tgt := 51) X dX0_fitsBut_28 rfl hf (fun q14 hf => ?_) (fun q14 hf => ?_)
      · clear q14
        refine tw_iinc (q := 4) (v := (s4 + (1 : Int32))) (lv' := [(4, .int (s4 + (1 : Int32))), (0, .ref (K 0)), (1, .int a1), (2, .int s1b), (3, .int s1c)]) X dX0_fitsBut_51 rfl rfl (by decide) rfl ?_
        refine tw_goto (tgt := 13) X dX0_fitsBut_54 rfl ?_
        refine tw_sub [1, 2, 3, 4, 0] (lv' := [(0, .ref (K 0)), (1, .int a1), (2, .int s1b), (3, .int s1c), (4, .int (s4 + (1 : Int32)))]) rfl ?_
        have hL := leafL hf hl5
        exact hL
      · clear q14
        refine tw_aload_n X dX0_fitsBut_31 rfl 0 rfl ?_
        refine tw_iload X dX0_fitsBut_32 4 rfl ?_
        refine tw_iload_n X dX0_fitsBut_34 rfl 3 rfl ?_
        refine tw_bipush (v := 51) X dX0_fitsBut_35 rfl ?_
        obtain ⟨x8, hx8, hf⟩ := bnd hf
        refine tw_idivV X dX0_fitsBut_37 hx8 ?_
        refine tw_iload_n X dX0_fitsBut_38 rfl 3 rfl ?_
        refine tw_bipush (v := 51) X dX0_fitsBut_39 rfl ?_
        obtain ⟨x9, hx9, hf⟩ := bnd hf
        refine tw_iremV X dX0_fitsBut_41 hx9 ?_
        obtain ⟨x10, hx10, hf⟩ := bnd hf
        refine tw_callVz (As := [.int s4, .int x8, .int x9]) (st := []) X (kC_isSo hx10) kGX0_483 kI_X0_isSo ⟨Nat.le_of_ble_eq_true rfl, Nat.le_of_ble_eq_true rfl⟩ ⟨Nat.zero_le _, Nat.zero_le _⟩ 0 rfl rfl rfl rfl (Nat.le_of_ble_eq_true rfl) dX0_fitsBut_42 ?_
        intro hb11
        refine tw_if_ne (tgt := 51) X dX0_fitsBut_45 rfl hf (fun q13 hf => ?_) (fun q13 hf => ?_)
        · clear q13
          refine tw_goto (tgt := 65) X dX0_fitsBut_48 rfl ?_
          refine tw_iinc (q := 3) (v := (s1c + (-1 : Int32))) (lv' := [(3, .int (s1c + (-1 : Int32))), (0, .ref (K 0)), (1, .int a1), (2, .int s1b), (4, .int s4)]) X dX0_fitsBut_65 rfl rfl (by decide) rfl ?_
          refine tw_goto (tgt := 6) X dX0_fitsBut_68 rfl ?_
          have hf12 := leafR hf hl5
          refine tw_sub [1, 2, 3, 0] (lv' := [(0, .ref (K 0)), (1, .int a1), (2, .int s1b), (3, .int (s1c + (-1 : Int32)))]) rfl ?_
          have hL := leafL hf12 hl2
          exact hL
        · clear q13
          refine tw_iinc (q := 4) (v := (s4 + (1 : Int32))) (lv' := [(4, .int (s4 + (1 : Int32))), (0, .ref (K 0)), (1, .int a1), (2, .int s1b), (3, .int s1c)]) X dX0_fitsBut_51 rfl rfl (by decide) rfl ?_
          refine tw_goto (tgt := 13) X dX0_fitsBut_54 rfl ?_
          refine tw_sub [1, 2, 3, 4, 0] (lv' := [(0, .ref (K 0)), (1, .int a1), (2, .int s1b), (3, .int s1c), (4, .int (s4 + (1 : Int32)))]) rfl ?_
          have hL := leafL hf hl5
          exact hL
noncomputable def kF_span (g : St) (a1 : Int32) : Option (Int32 × St) :=
  if (kF_isIn a1 (0 : Int32) (2 : Int32)) = 0 then
    some ((-1 : Int32), g)
  else
    (kF_fitsBut g (-1 : Int32)).bind (un2 fun y2a y2b =>
    if a1 = 0 then
      some (y2a, y2b)
    else
      if y2a = 0 then
        some ((-3 : Int32), y2b)
      else
        if a1 = (1 : Int32) then
          (dv (y2b 0 26) (51 : Int32)).bind fun x3 =>
          some (x3, y2b)
        else
          (rm (y2b 0 26) (51 : Int32)).bind fun x4 =>
          some (x4, y2b))
set_option maxHeartbeats 4000000 in
theorem kC_span {l : Launch} {D : va_G} {A : Nat → Prop} {K : Nat → Nat} {δ : Nat → ClassId} {sr ρ : Rf} {dy : va_W} {g : St} {a1 : Int32} {z : Int32 × St} (hf : kF_span g a1 = some z) : Ct l yX0_span cX0_span 3 (some .int) 3 87 D vwCl (kT δ) A (kW K δ sr ρ dy) [.ref (K 0), .int a1] g (QI D vwCl A (kW K δ sr ρ dy) z.1 z.2) := by
  unfold kF_span at hf
  refine ct_intro (own := RX0) (lv0 := [(0, .ref (K 0)), (1, .int a1)]) (by decide) rfl (Nat.le_of_ble_eq_true rfl) rfl ?_
  intro p e s m args below meth c X hr
  refine tw_iload_n X dX0_span_0 rfl 1 rfl ?_
  refine tw_iconst (v := 0) X dX0_span_1 rfl ?_
  refine tw_iconst (v := 2) X dX0_span_2 rfl ?_
  refine tw_callSz (As := [.int a1, .int (0 : Int32), .int (2 : Int32)]) (st := []) X (kC_isIn (g := g) a1 (0 : Int32) (2 : Int32)) kGX0_149 kI_X0_isIn ⟨Nat.le_of_ble_eq_true rfl, Nat.le_of_ble_eq_true rfl⟩ ⟨Nat.zero_le _, Nat.zero_le _⟩ rfl rfl (Nat.le_of_ble_eq_true rfl) dX0_span_3 ?_
  intro hb1
  refine tw_if_ne (tgt := 11) X dX0_span_6 rfl hf (fun q8 hf => ?_) (fun q8 hf => ?_)
  · clear q8
    refine tw_iconst (v := -1) X dX0_span_9 rfl ?_
    exact tw_iret X hr (prj1 hf) (prj2 hf) dX0_span_10
  · clear q8
    refine tw_aload_n X dX0_span_11 rfl 0 rfl ?_
    refine tw_iconst (v := -1) X dX0_span_12 rfl ?_
    obtain ⟨⟨y2a, y2b⟩, hy2, hf⟩ := bnd hf
    dsimp only [un2] at hf
    refine tw_callVi (As := [.int (-1 : Int32)]) (st := []) X (kC_fitsBut hy2) kGX0_489 kI_X0_fitsBut ⟨Nat.le_of_ble_eq_true rfl, Nat.le_of_ble_eq_true rfl⟩ ⟨Nat.zero_le _, Nat.zero_le _⟩ 0 rfl rfl rfl rfl (Nat.le_of_ble_eq_true rfl) dX0_span_13 ?_
    refine tw_istore_n (lv' := [(2, .int y2a), (0, .ref (K 0)), (1, .int a1)]) X dX0_span_16 rfl (by decide) rfl ?_
    refine tw_iload_n X dX0_span_17 rfl 2 rfl ?_
    refine tw_if_ne (tgt := 23) X dX0_span_18 rfl hf (fun q7 hf => ?_) (fun q7 hf => ?_)
    · clear q7
      refine tw_iload_n X dX0_span_21 rfl 0 rfl ?_
      exact tw_iret X hr (prj1 hf) (prj2 hf) dX0_span_22
    · clear q7
      refine tw_iload_n X dX0_span_23 rfl 0 rfl ?_
      refine tw_if_ne (tgt := 32) X dX0_span_24 rfl hf (fun q6 hf => ?_) (fun q6 hf => ?_)
      · clear q6
        refine tw_bipush (v := -3) X dX0_span_27 rfl ?_
        refine tw_goto (tgt := 54) X dX0_span_29 rfl ?_
        exact tw_iret X hr (prj1 hf) (prj2 hf) dX0_span_54
      · clear q6
        refine tw_iload_n X dX0_span_32 rfl 2 rfl ?_
        refine tw_iconst (v := 1) X dX0_span_33 rfl ?_
        refine tw_icmp_ne (tgt := 47) X dX0_span_34 rfl hf (fun q5 hf => ?_) (fun q5 hf => ?_)
        · clear q5
          refine tw_aload_n X dX0_span_37 rfl 1 rfl ?_
          refine kgX0_486_0 X  dX0_span_38 ?_
          refine tw_bipush (v := 51) X dX0_span_41 rfl ?_
          obtain ⟨x3, hx3, hf⟩ := bnd hf
          refine tw_idivV X dX0_span_43 hx3 ?_
          refine tw_goto (tgt := 54) X dX0_span_44 rfl ?_
          exact tw_iret X hr (prj1 hf) (prj2 hf) dX0_span_54
        · clear q5
          refine tw_aload_n X dX0_span_47 rfl 1 rfl ?_
          refine kgX0_486_0 X  dX0_span_48 ?_
          refine tw_bipush (v := 51) X dX0_span_51 rfl ?_
          obtain ⟨x4, hx4, hf⟩ := bnd hf
          refine tw_iremV X dX0_span_53 hx4 ?_
          exact tw_iret X hr (prj1 hf) (prj2 hf) dX0_span_54
noncomputable def kF_liar (g : St) : Option (Int32 × St) :=
  (kF_fitsBut g (-1 : Int32)).bind (un2 fun y1a y1b =>
  if y1a ≤ 0 then
    Option.bind (α := St × Int32) (β := Int32 × St)
      (iter (L := St × Int32) (T := St × Int32) (un2 fun s5a s5b => 
        if (s5a 40 2) ≤ s5b then
          some (.inr (s5a, s5b))
        else
          (kF_fitsBut s5a s5b).bind (un2 fun y8a y8b =>
          if y8a = 0 then
            some (.inl (y8b, (s5b + (1 : Int32))))
          else
            some (.inr (y8b, s5b)))) (y1b, (0 : Int32)))
      (un2 fun j2a j2b => if (j2a 40 2) ≤ j2b then
        some ((-3 : Int32), j2a)
      else
        some (j2b, j2a))
  else
    some ((-3 : Int32), y1b))
set_option maxHeartbeats 4000000 in
theorem kC_liar {l : Launch} {D : va_G} {A : Nat → Prop} {K : Nat → Nat} {δ : Nat → ClassId} {sr ρ : Rf} {dy : va_W} {g : St} {z : Int32 × St} (hf : kF_liar g = some z) : Ct l yX0_liar cX0_liar 2 (some .int) 3 87 D vwCl (kT δ) A (kW K δ sr ρ dy) [.ref (K 0)] g (QI D vwCl A (kW K δ sr ρ dy) z.1 z.2) := by
  unfold kF_liar at hf
  refine ct_intro (own := RX0) (lv0 := [(0, .ref (K 0))]) (by decide) rfl (Nat.le_of_ble_eq_true rfl) rfl ?_
  intro p e s m args below meth c X hr
  refine tw_aload_n X dX0_liar_0 rfl 0 rfl ?_
  refine tw_iconst (v := -1) X dX0_liar_1 rfl ?_
  obtain ⟨⟨y1a, y1b⟩, hy1, hf⟩ := bnd hf
  dsimp only [un2] at hf
  refine tw_callVi (As := [.int (-1 : Int32)]) (st := []) X (kC_fitsBut hy1) kGX0_489 kI_X0_fitsBut ⟨Nat.le_of_ble_eq_true rfl, Nat.le_of_ble_eq_true rfl⟩ ⟨Nat.zero_le _, Nat.zero_le _⟩ 0 rfl rfl rfl rfl (Nat.le_of_ble_eq_true rfl) dX0_liar_2 ?_
  refine tw_if_le (tgt := 11) X dX0_liar_5 rfl hf (fun q14 hf => ?_) (fun q14 hf => ?_)
  · clear q14
    refine tw_iconst (v := 0) X dX0_liar_11 rfl ?_
    refine tw_istore_n (lv' := [(1, .int (0 : Int32)), (0, .ref (K 0))]) X dX0_liar_12 rfl (by decide) rfl ?_
    refine bj_walk (P := un2 fun j2a j2b => TW p l e (rom 3 87) s m args below meth c (MQ below (QI D vwCl A (kW K δ sr ρ dy) z.1 z.2) args s 0 0 A) D vwCl A (kW K δ sr ρ dy) 2 0 0 j2a 38 [(0, .ref (K 0)), (1, .int j2b)] []) hf ?_ ?_
    · rintro ⟨j2a, j2b⟩ hf
      dsimp only [un2] at hf ⊢
      refine tw_iload_n X dX0_liar_38 rfl 1 rfl ?_
      refine tw_aload_n X dX0_liar_39 rfl 0 rfl ?_
      refine kgX0_47_0 X  dX0_liar_40 ?_
      refine kgX0_471_3 X  dX0_liar_43 ?_
      refine tw_icmp_ge (tgt := 53) X dX0_liar_46 rfl hf (fun q4 hf => ?_) (fun q4 hf => ?_)
      · clear q4
        refine tw_bipush (v := -3) X dX0_liar_53 rfl ?_
        exact tw_iret X hr (prj1 hf) (prj2 hf) dX0_liar_55
      · clear q4
        refine tw_iload_n X dX0_liar_49 rfl 1 rfl ?_
        refine tw_goto (tgt := 55) X dX0_liar_50 rfl ?_
        exact tw_iret X hr (prj1 hf) (prj2 hf) dX0_liar_55
    · intro zz13 hf hk3
      refine tw_sub [1, 0] (lv' := [(0, .ref (K 0)), (1, .int (0 : Int32))]) rfl ?_
      refine it_walk (P := un2 fun s5a s5b => TW p l e (rom 3 87) s m args below meth c (MQ below (QI D vwCl A (kW K δ sr ρ dy) z.1 z.2) args s 0 0 A) D vwCl A (kW K δ sr ρ dy) 2 0 0 s5a 13 [(0, .ref (K 0)), (1, .int s5b)] []) hf ?_
      rintro ⟨s5a, s5b⟩ zz12 hf hl6
      dsimp only [un2] at hf ⊢
      refine tw_iload_n X dX0_liar_13 rfl 1 rfl ?_
      refine tw_aload_n X dX0_liar_14 rfl 0 rfl ?_
      refine kgX0_47_0 X  dX0_liar_15 ?_
      refine kgX0_471_3 X  dX0_liar_18 ?_
      refine tw_icmp_ge (tgt := 38) X dX0_liar_21 rfl hf (fun q11 hf => ?_) (fun q11 hf => ?_)
      · clear q11
        have hf7 := leafR hf hl6
        have hL := hk3 _ hf7
        exact hL
      · clear q11
        refine tw_aload_n X dX0_liar_24 rfl 0 rfl ?_
        refine tw_iload_n X dX0_liar_25 rfl 1 rfl ?_
        obtain ⟨⟨y8a, y8b⟩, hy8, hf⟩ := bnd hf
        dsimp only [un2] at hf
        refine tw_callVi (As := [.int s5b]) (st := []) X (kC_fitsBut hy8) kGX0_489 kI_X0_fitsBut ⟨Nat.le_of_ble_eq_true rfl, Nat.le_of_ble_eq_true rfl⟩ ⟨Nat.zero_le _, Nat.zero_le _⟩ 0 rfl rfl rfl rfl (Nat.le_of_ble_eq_true rfl) dX0_liar_26 ?_
        refine tw_if_ne (tgt := 38) X dX0_liar_29 rfl hf (fun q10 hf => ?_) (fun q10 hf => ?_)
        · clear q10
          refine tw_iinc (q := 1) (v := (s5b + (1 : Int32))) (lv' := [(1, .int (s5b + (1 : Int32))), (0, .ref (K 0))]) X dX0_liar_32 rfl rfl (by decide) rfl ?_
          refine tw_goto (tgt := 13) X dX0_liar_35 rfl ?_
          refine tw_sub [1, 0] (lv' := [(0, .ref (K 0)), (1, .int (s5b + (1 : Int32)))]) rfl ?_
          have hL := leafL hf hl6
          exact hL
        · clear q10
          have hf9 := leafR hf hl6
          have hL := hk3 _ hf9
          exact hL
  · clear q14
    refine tw_bipush (v := -3) X dX0_liar_8 rfl ?_
    exact tw_iret X hr (prj1 hf) (prj2 hf) dX0_liar_10
noncomputable def kF_seed (g : St) (a1 : Int32) : Option (Int32 × St) :=
  (pf g 40 4 a1).bind fun g1 =>
  some ((g 40 4), g1)
set_option maxHeartbeats 4000000 in
theorem kC_seed {l : Launch} {D : va_G} {A : Nat → Prop} {K : Nat → Nat} {δ : Nat → ClassId} {sr ρ : Rf} {dy : va_W} {g : St} {a1 : Int32} {z : Int32 × St} (hf : kF_seed g a1 = some z) : Ct l yX0_seed cX0_seed 3 (some .int) 0 0 D vwCl (kT δ) A (kW K δ sr ρ dy) [.ref (K 0), .int a1] g (QI D vwCl A (kW K δ sr ρ dy) z.1 z.2) := by
  unfold kF_seed at hf
  refine ct_intro (own := RX0) (lv0 := [(0, .ref (K 0)), (1, .int a1)]) (by decide) rfl (Nat.le_of_ble_eq_true rfl) rfl ?_
  intro p e s m args below meth c X hr
  refine tw_aload_n X dX0_seed_0 rfl 0 rfl ?_
  refine kgX0_47_0 X  dX0_seed_1 ?_
  refine kgX0_492_3 X  dX0_seed_4 ?_
  refine tw_istore_n (lv' := [(2, .int (g 40 4)), (0, .ref (K 0)), (1, .int a1)]) X dX0_seed_7 rfl (by decide) rfl ?_
  refine tw_aload_n X dX0_seed_8 rfl 1 rfl ?_
  refine kgX0_47_0 X  dX0_seed_9 ?_
  refine tw_iload_n X dX0_seed_12 rfl 2 rfl ?_
  obtain ⟨g1, hg1, hf⟩ := bnd hf
  refine kpX0_492_3 X hg1 dX0_seed_13 ?_
  refine tw_iload_n X dX0_seed_16 rfl 0 rfl ?_
  exact tw_iret X hr (prj1 hf) (prj2 hf) dX0_seed_17
noncomputable def kF_manyCan (E : EE) (g : St) : Option (Int32 × St) :=
  (kF_cans E g (-1 : Int32)).bind (un2 fun y1a y1b =>
  iter (L := St × Int32 × Int32) (T := Int32 × St) (un3 fun s2a s2b s2c => 
    if s2c < 0 then
      some (.inr (s2b, s2a))
    else
      (kF_cans E s2a s2c).bind (un2 fun y5a y5b =>
      some (.inl (y5b, (s2b + (1 : Int32)), y5a)))) (y1b, (0 : Int32), y1a))
set_option maxHeartbeats 4000000 in
theorem kC_manyCan {l : Launch} {D : va_G} {A : Nat → Prop} {K : Nat → Nat} {δ : Nat → ClassId} {sr ρ : Rf} {dy : va_W} {E : EE} (hE : EOK δ ρ dy E) {g : St} {z : Int32 × St} (hf : kF_manyCan E g = some z) : Ct l yX0_manyCan cX0_manyCan 3 (some .int) 227 5232 D vwCl (kT δ) A (kW K δ sr ρ dy) [.ref (K 0)] g (QI D vwCl A (kW K δ sr ρ dy) z.1 z.2) := by
  unfold kF_manyCan at hf
  refine ct_intro (own := RX0) (lv0 := [(0, .ref (K 0))]) (by decide) rfl (Nat.le_of_ble_eq_true rfl) rfl ?_
  intro p e s m args below meth c X hr
  refine tw_iconst (v := 0) X dX0_manyCan_0 rfl ?_
  refine tw_istore_n (lv' := [(1, .int (0 : Int32)), (0, .ref (K 0))]) X dX0_manyCan_1 rfl (by decide) rfl ?_
  refine tw_aload_n X dX0_manyCan_2 rfl 1 rfl ?_
  refine tw_iconst (v := -1) X dX0_manyCan_3 rfl ?_
  obtain ⟨⟨y1a, y1b⟩, hy1, hf⟩ := bnd hf
  dsimp only [un2] at hf
  refine tw_callVi (As := [.int (-1 : Int32)]) (st := []) X (kC_cans hE hy1) kGX0_468 kI_X0_cans ⟨Nat.le_of_ble_eq_true rfl, Nat.le_of_ble_eq_true rfl⟩ ⟨Nat.zero_le _, Nat.zero_le _⟩ 0 rfl rfl rfl rfl (Nat.le_of_ble_eq_true rfl) dX0_manyCan_4 ?_
  refine tw_istore_n (lv' := [(2, .int y1a), (1, .int (0 : Int32)), (0, .ref (K 0))]) X dX0_manyCan_7 rfl (by decide) rfl ?_
  refine tw_sub [2, 1, 0] (lv' := [(0, .ref (K 0)), (1, .int (0 : Int32)), (2, .int y1a)]) rfl ?_
  refine it_walk (P := un3 fun s2a s2b s2c => TW p l e (rom 227 5232) s m args below meth c (MQ below (QI D vwCl A (kW K δ sr ρ dy) z.1 z.2) args s 0 0 A) D vwCl A (kW K δ sr ρ dy) 3 0 0 s2a 8 [(0, .ref (K 0)), (1, .int s2b), (2, .int s2c)] []) hf ?_
  rintro ⟨s2a, s2b, s2c⟩ zz7 hf hl3
  dsimp only [un3] at hf ⊢
  refine tw_iload_n X dX0_manyCan_8 rfl 2 rfl ?_
  refine tw_if_lt (tgt := 24) X dX0_manyCan_9 rfl hf (fun q6 hf => ?_) (fun q6 hf => ?_)
  · clear q6
    refine tw_iload_n X dX0_manyCan_24 rfl 1 rfl ?_
    have hf4 := leafR hf hl3
    exact tw_iret X hr (prj1 hf4) (prj2 hf4) dX0_manyCan_25
  · clear q6
    refine tw_iinc (q := 1) (v := (s2b + (1 : Int32))) (lv' := [(1, .int (s2b + (1 : Int32))), (0, .ref (K 0)), (2, .int s2c)]) X dX0_manyCan_12 rfl rfl (by decide) rfl ?_
    refine tw_aload_n X dX0_manyCan_15 rfl 1 rfl ?_
    refine tw_iload_n X dX0_manyCan_16 rfl 2 rfl ?_
    obtain ⟨⟨y5a, y5b⟩, hy5, hf⟩ := bnd hf
    dsimp only [un2] at hf
    refine tw_callVi (As := [.int s2c]) (st := []) X (kC_cans hE hy5) kGX0_468 kI_X0_cans ⟨Nat.le_of_ble_eq_true rfl, Nat.le_of_ble_eq_true rfl⟩ ⟨Nat.zero_le _, Nat.zero_le _⟩ 0 rfl rfl rfl rfl (Nat.le_of_ble_eq_true rfl) dX0_manyCan_17 ?_
    refine tw_istore_n (lv' := [(2, .int y5a), (1, .int (s2b + (1 : Int32))), (0, .ref (K 0))]) X dX0_manyCan_20 rfl (by decide) rfl ?_
    refine tw_goto (tgt := 8) X dX0_manyCan_21 rfl ?_
    refine tw_sub [2, 1, 0] (lv' := [(0, .ref (K 0)), (1, .int (s2b + (1 : Int32))), (2, .int y5a)]) rfl ?_
    have hL := leafL hf hl3
    exact hL
noncomputable def kF_drawn (E : EE) (g : St) : Option (Int32 × St) :=
  (kF_manyCan E g).bind (un2 fun y1a y1b =>
  if y1a = 0 then
    some ((-3 : Int32), y1b)
  else
    (pf y1b 40 4 (((y1b 40 4) * (1103515245 : Int32)) + (12345 : Int32))).bind fun g2 =>
    (kF_cans E g2 (-1 : Int32)).bind (un2 fun y3a y3b =>
    (rm (((y3b 40 4)).toUInt32 >>> (((16 : Int32)).toUInt32 &&& Int32.toUInt32 31)).toInt32 y1a).bind fun x4 =>
    Option.bind (α := St × Int32) (β := Int32 × St)
      (iter (L := St × Int32 × Int32) (T := St × Int32) (un3 fun s9a s9b s9c => 
        if s9c ≤ 0 then
          some (.inr (s9a, s9b))
        else
          (kF_cans E s9a s9b).bind (un2 fun y12a y12b =>
          some (.inl (y12b, y12a, (s9c + (-1 : Int32)))))) (y3b, y3a, x4))
      (un2 fun j5a j5b => (kF_makes E j5a j5b).bind (un2 fun y7a y7b =>
      if 0 ≤ y7a then
        some (j5b, y7b)
      else
        some ((-3 : Int32), y7b)))))
set_option maxHeartbeats 4000000 in
theorem kC_drawn {l : Launch} {D : va_G} {A : Nat → Prop} {K : Nat → Nat} {δ : Nat → ClassId} {sr ρ : Rf} {dy : va_W} {E : EE} (hE : EOK δ ρ dy E) {g : St} {z : Int32 × St} (hf : kF_drawn E g = some z) : Ct l yX0_drawn cX0_drawn 4 (some .int) 228 5254 D vwCl (kT δ) A (kW K δ sr ρ dy) [.ref (K 0)] g (QI D vwCl A (kW K δ sr ρ dy) z.1 z.2) := by
  unfold kF_drawn at hf
  refine ct_intro (own := RX0) (lv0 := [(0, .ref (K 0))]) (by decide) rfl (Nat.le_of_ble_eq_true rfl) rfl ?_
  intro p e s m args below meth c X hr
  refine tw_aload_n X dX0_drawn_0 rfl 0 rfl ?_
  obtain ⟨⟨y1a, y1b⟩, hy1, hf⟩ := bnd hf
  dsimp only [un2] at hf
  refine tw_callVi (As := []) (st := []) X (kC_manyCan hE hy1) kGX0_495 kI_X0_manyCan ⟨Nat.le_of_ble_eq_true rfl, Nat.le_of_ble_eq_true rfl⟩ ⟨Nat.zero_le _, Nat.zero_le _⟩ 0 rfl rfl rfl rfl (Nat.le_of_ble_eq_true rfl) dX0_drawn_1 ?_
  refine tw_istore_n (lv' := [(1, .int y1a), (0, .ref (K 0))]) X dX0_drawn_4 rfl (by decide) rfl ?_
  refine tw_iload_n X dX0_drawn_5 rfl 0 rfl ?_
  refine tw_if_ne (tgt := 12) X dX0_drawn_6 rfl hf (fun q16 hf => ?_) (fun q16 hf => ?_)
  · clear q16
    refine tw_bipush (v := -3) X dX0_drawn_9 rfl ?_
    exact tw_iret X hr (prj1 hf) (prj2 hf) dX0_drawn_11
  · clear q16
    refine tw_aload_n X dX0_drawn_12 rfl 1 rfl ?_
    refine kgX0_47_0 X  dX0_drawn_13 ?_
    refine tw_aload_n X dX0_drawn_16 rfl 1 rfl ?_
    refine kgX0_47_0 X  dX0_drawn_17 ?_
    refine kgX0_492_3 X  dX0_drawn_20 ?_
    refine tw_ldcw (v := 1103515245) X q1129 dX0_drawn_23 ?_
    refine tw_imul X dX0_drawn_26 ?_
    refine tw_sipush (v := 12345) X dX0_drawn_27 rfl ?_
    refine tw_iadd X dX0_drawn_30 ?_
    obtain ⟨g2, hg2, hf⟩ := bnd hf
    refine kpX0_492_3 X hg2 dX0_drawn_31 ?_
    refine tw_aload_n X dX0_drawn_34 rfl 1 rfl ?_
    refine tw_iconst (v := -1) X dX0_drawn_35 rfl ?_
    obtain ⟨⟨y3a, y3b⟩, hy3, hf⟩ := bnd hf
    dsimp only [un2] at hf
    refine tw_callVi (As := [.int (-1 : Int32)]) (st := []) X (kC_cans hE hy3) kGX0_468 kI_X0_cans ⟨Nat.le_of_ble_eq_true rfl, Nat.le_of_ble_eq_true rfl⟩ ⟨Nat.zero_le _, Nat.zero_le _⟩ 0 rfl rfl rfl rfl (Nat.le_of_ble_eq_true rfl) dX0_drawn_36 ?_
    refine tw_istore_n (lv' := [(2, .int y3a), (1, .int y1a), (0, .ref (K 0))]) X dX0_drawn_39 rfl (by decide) rfl ?_
    refine tw_aload_n X dX0_drawn_40 rfl 2 rfl ?_
    refine kgX0_47_0 X  dX0_drawn_41 ?_
    refine kgX0_492_3 X  dX0_drawn_44 ?_
    refine tw_bipush (v := 16) X dX0_drawn_47 rfl ?_
    refine tw_iushr X dX0_drawn_49 ?_
    refine tw_iload_n X dX0_drawn_50 rfl 1 rfl ?_
    obtain ⟨x4, hx4, hf⟩ := bnd hf
    refine tw_iremV X dX0_drawn_51 hx4 ?_
    refine tw_istore_n (lv' := [(3, .int x4), (2, .int y3a), (1, .int y1a), (0, .ref (K 0))]) X dX0_drawn_52 rfl (by decide) rfl ?_
    refine bj_walk (P := un2 fun j5a j5b => TW p l e (rom 228 5254) s m args below meth c (MQ below (QI D vwCl A (kW K δ sr ρ dy) z.1 z.2) args s 0 0 A) D vwCl A (kW K δ sr ρ dy) 4 0 0 j5a 69 [(0, .ref (K 0)), (2, .int j5b)] []) hf ?_ ?_
    · rintro ⟨j5a, j5b⟩ hf
      dsimp only [un2] at hf ⊢
      refine tw_aload_n X dX0_drawn_69 rfl 0 rfl ?_
      refine tw_iload_n X dX0_drawn_70 rfl 1 rfl ?_
      obtain ⟨⟨y7a, y7b⟩, hy7, hf⟩ := bnd hf
      dsimp only [un2] at hf
      refine tw_callVi (As := [.int j5b]) (st := []) X (kC_makes hE hy7) kGX0_398 kI_X0_makes ⟨Nat.le_of_ble_eq_true rfl, Nat.le_of_ble_eq_true rfl⟩ ⟨Nat.zero_le _, Nat.zero_le _⟩ 0 rfl rfl rfl rfl (Nat.le_of_ble_eq_true rfl) dX0_drawn_71 ?_
      refine tw_istore_n (lv' := [(3, .int y7a), (0, .ref (K 0)), (2, .int j5b)]) X dX0_drawn_74 rfl (by decide) rfl ?_
      refine tw_iload_n X dX0_drawn_75 rfl 0 rfl ?_
      refine tw_if_ge (tgt := 84) X dX0_drawn_76 rfl hf (fun q8 hf => ?_) (fun q8 hf => ?_)
      · clear q8
        refine tw_iload_n X dX0_drawn_84 rfl 2 rfl ?_
        exact tw_iret X hr (prj1 hf) (prj2 hf) dX0_drawn_85
      · clear q8
        refine tw_bipush (v := -3) X dX0_drawn_79 rfl ?_
        refine tw_goto (tgt := 85) X dX0_drawn_81 rfl ?_
        exact tw_iret X hr (prj1 hf) (prj2 hf) dX0_drawn_85
    · intro zz15 hf hk6
      refine tw_sub [3, 1, 0] (lv' := [(0, .ref (K 0)), (2, .int y3a), (3, .int x4)]) rfl ?_
      refine it_walk (P := un3 fun s9a s9b s9c => TW p l e (rom 228 5254) s m args below meth c (MQ below (QI D vwCl A (kW K δ sr ρ dy) z.1 z.2) args s 0 0 A) D vwCl A (kW K δ sr ρ dy) 4 0 0 s9a 53 [(0, .ref (K 0)), (2, .int s9b), (3, .int s9c)] []) hf ?_
      rintro ⟨s9a, s9b, s9c⟩ zz14 hf hl10
      dsimp only [un3] at hf ⊢
      refine tw_iload_n X dX0_drawn_53 rfl 2 rfl ?_
      refine tw_if_le (tgt := 69) X dX0_drawn_54 rfl hf (fun q13 hf => ?_) (fun q13 hf => ?_)
      · clear q13
        have hf11 := leafR hf hl10
        refine tw_sub [0, 1] (lv' := [(0, .ref (K 0)), (2, .int s9b)]) rfl ?_
        have hL := hk6 _ hf11
        exact hL
      · clear q13
        refine tw_aload_n X dX0_drawn_57 rfl 0 rfl ?_
        refine tw_iload_n X dX0_drawn_58 rfl 1 rfl ?_
        obtain ⟨⟨y12a, y12b⟩, hy12, hf⟩ := bnd hf
        dsimp only [un2] at hf
        refine tw_callVi (As := [.int s9b]) (st := []) X (kC_cans hE hy12) kGX0_468 kI_X0_cans ⟨Nat.le_of_ble_eq_true rfl, Nat.le_of_ble_eq_true rfl⟩ ⟨Nat.zero_le _, Nat.zero_le _⟩ 0 rfl rfl rfl rfl (Nat.le_of_ble_eq_true rfl) dX0_drawn_59 ?_
        refine tw_istore_n (lv' := [(2, .int y12a), (0, .ref (K 0)), (3, .int s9c)]) X dX0_drawn_62 rfl (by decide) rfl ?_
        refine tw_iinc (q := 2) (v := (s9c + (-1 : Int32))) (lv' := [(3, .int (s9c + (-1 : Int32))), (2, .int y12a), (0, .ref (K 0))]) X dX0_drawn_63 rfl rfl (by decide) rfl ?_
        refine tw_goto (tgt := 53) X dX0_drawn_66 rfl ?_
        refine tw_sub [2, 1, 0] (lv' := [(0, .ref (K 0)), (2, .int y12a), (3, .int (s9c + (-1 : Int32)))]) rfl ?_
        have hL := leafL hf hl10
        exact hL
noncomputable def kF_draw (E : EE) (g : St) : Option (Int32 × St) :=
  (kF_drawn E g).bind (un2 fun y1a y1b =>
  some (y1a, y1b))
set_option maxHeartbeats 4000000 in
theorem kC_draw {l : Launch} {D : va_G} {A : Nat → Prop} {K : Nat → Nat} {δ : Nat → ClassId} {sr ρ : Rf} {dy : va_W} {E : EE} (hE : EOK δ ρ dy E) {g : St} {z : Int32 × St} (hf : kF_draw E g = some z) : Ct l yX0_draw cX0_draw 1 (some .int) 229 5277 D vwCl (kT δ) A (kW K δ sr ρ dy) [.ref (K 0)] g (QI D vwCl A (kW K δ sr ρ dy) z.1 z.2) := by
  unfold kF_draw at hf
  refine ct_intro (own := RX0) (lv0 := [(0, .ref (K 0))]) (by decide) rfl (Nat.le_of_ble_eq_true rfl) rfl ?_
  intro p e s m args below meth c X hr
  refine tw_aload_n X dX0_draw_0 rfl 0 rfl ?_
  obtain ⟨⟨y1a, y1b⟩, hy1, hf⟩ := bnd hf
  dsimp only [un2] at hf
  refine tw_callVi (As := []) (st := []) X (kC_drawn hE hy1) kGX0_499 kI_X0_drawn ⟨Nat.le_of_ble_eq_true rfl, Nat.le_of_ble_eq_true rfl⟩ ⟨Nat.zero_le _, Nat.zero_le _⟩ 0 rfl rfl rfl rfl (Nat.le_of_ble_eq_true rfl) dX0_draw_1 ?_
  exact tw_iret X hr (prj1 hf) (prj2 hf) dX0_draw_4
noncomputable def kF_X3_become_5_3 (g : St) : Option (St) :=
  (pf g 80 0 (g 40 0)).bind fun g1 =>
  (pf g1 80 1 (g1 40 1)).bind fun g2 =>
  (pf g2 80 2 (g2 40 2)).bind fun g3 =>
  (pf g3 80 3 (g3 40 3)).bind fun g4 =>
  (pf g4 80 4 (g4 40 4)).bind fun g5 =>
  (cpy g5 45 6 85 6 (0 : Int32) (0 : Int32) (6 : Int32)).bind fun g6 =>
  (cpy g6 46 6 86 6 (0 : Int32) (0 : Int32) (6 : Int32)).bind fun g7 =>
  (cpy g7 47 6 87 6 (0 : Int32) (0 : Int32) (6 : Int32)).bind fun g8 =>
  (cpy g8 48 6 88 6 (0 : Int32) (0 : Int32) (6 : Int32)).bind fun g9 =>
  (cpy g9 49 6 89 6 (0 : Int32) (0 : Int32) (6 : Int32)).bind fun g10 =>
  (cpy g10 50 8 90 8 (0 : Int32) (0 : Int32) (8 : Int32)).bind fun g11 =>
  (cpy g11 51 8 91 8 (0 : Int32) (0 : Int32) (8 : Int32)).bind fun g12 =>
  (cpy g12 52 6 92 6 (0 : Int32) (0 : Int32) (6 : Int32)).bind fun g13 =>
  (cpy g13 53 6 93 6 (0 : Int32) (0 : Int32) (6 : Int32)).bind fun g14 =>
  (cpy g14 54 6 94 6 (0 : Int32) (0 : Int32) (6 : Int32)).bind fun g15 =>
  (cpy g15 55 12 95 12 (0 : Int32) (0 : Int32) (12 : Int32)).bind fun g16 =>
  (cpy g16 56 12 96 12 (0 : Int32) (0 : Int32) (12 : Int32)).bind fun g17 =>
  (cpy g17 57 12 97 12 (0 : Int32) (0 : Int32) (12 : Int32)).bind fun g18 =>
  some g18
set_option maxHeartbeats 4000000 in
theorem kC_X3_become_5_3 {l : Launch} {D : va_G} {A : Nat → Prop} {K : Nat → Nat} {δ : Nat → ClassId} {sr ρ : Rf} {dy : va_W} {g : St} {z : St} (hf : kF_X3_become_5_3 g = some z) : Ct l yX3_become cX3_become 2 none 1 40 D vwCl (kT δ) A (kW K δ sr ρ dy) [.ref (K 5), .ref (K 3)] g (QV D vwCl A (kW K δ sr (upR ρ 0 2 (ρ 0 0)) dy) z) := by
  unfold kF_X3_become_5_3 at hf
  refine ct_intro (own := RX3) (lv0 := [(0, .ref (K 5)), (1, .ref (K 3))]) (by decide) rfl (Nat.le_of_ble_eq_true rfl) rfl ?_
  intro p e s m args below meth c X hr
  refine tw_aload_n X dX3_become_0 rfl 0 rfl ?_
  refine tw_aload_n X dX3_become_1 rfl 1 rfl ?_
  refine kgX3_61_3 X  dX3_become_2 ?_
  obtain ⟨g1, hg1, hf⟩ := bnd hf
  refine kpX3_61_5 X hg1 dX3_become_5 ?_
  refine tw_aload_n X dX3_become_8 rfl 0 rfl ?_
  refine tw_aload_n X dX3_become_9 rfl 1 rfl ?_
  refine kgX3_64_3 X  dX3_become_10 ?_
  obtain ⟨g2, hg2, hf⟩ := bnd hf
  refine kpX3_64_5 X hg2 dX3_become_13 ?_
  refine tw_aload_n X dX3_become_16 rfl 0 rfl ?_
  refine tw_aload_n X dX3_become_17 rfl 1 rfl ?_
  refine kgX3_67_3 X  dX3_become_18 ?_
  obtain ⟨g3, hg3, hf⟩ := bnd hf
  refine kpX3_67_5 X hg3 dX3_become_21 ?_
  refine tw_aload_n X dX3_become_24 rfl 0 rfl ?_
  refine tw_aload_n X dX3_become_25 rfl 1 rfl ?_
  refine kgX3_70_3 X  dX3_become_26 ?_
  obtain ⟨g4, hg4, hf⟩ := bnd hf
  refine kpX3_70_5 X hg4 dX3_become_29 ?_
  refine tw_aload_n X dX3_become_32 rfl 0 rfl ?_
  refine tw_aload_n X dX3_become_33 rfl 1 rfl ?_
  refine kgX3_9_3 X  dX3_become_34 ?_
  obtain ⟨g5, hg5, hf⟩ := bnd hf
  refine kpX3_9_5 X hg5 dX3_become_37 ?_
  refine tw_aload_n X dX3_become_40 rfl 0 rfl ?_
  refine tw_aload_n X dX3_become_41 rfl 1 rfl ?_
  refine kgq_0 X  dX3_become_42 ?_
  refine kpq_2_0 X dX3_become_45 ?_
  refine tw_aload_n X dX3_become_48 rfl 1 rfl ?_
  refine kgX3_15_3 X  dX3_become_49 ?_
  refine tw_iconst (v := 0) X dX3_become_52 rfl ?_
  refine tw_aload_n X dX3_become_53 rfl 0 rfl ?_
  refine kgX3_15_5 X  dX3_become_54 ?_
  refine tw_iconst (v := 0) X dX3_become_57 rfl ?_
  refine tw_bipush (v := 6) X dX3_become_58 rfl ?_
  obtain ⟨g6, hg6, hf⟩ := bnd hf
  refine kcX3_45_85 X hg6 ⟨Nat.le_of_ble_eq_true rfl, Nat.le_of_ble_eq_true rfl⟩ (Nat.le_of_ble_eq_true rfl) dX3_become_60 ?_
  refine tw_aload_n X dX3_become_63 rfl 1 rfl ?_
  refine kgX3_19_3 X  dX3_become_64 ?_
  refine tw_iconst (v := 0) X dX3_become_67 rfl ?_
  refine tw_aload_n X dX3_become_68 rfl 0 rfl ?_
  refine kgX3_19_5 X  dX3_become_69 ?_
  refine tw_iconst (v := 0) X dX3_become_72 rfl ?_
  refine tw_bipush (v := 6) X dX3_become_73 rfl ?_
  obtain ⟨g7, hg7, hf⟩ := bnd hf
  refine kcX3_46_86 X hg7 ⟨Nat.le_of_ble_eq_true rfl, Nat.le_of_ble_eq_true rfl⟩ (Nat.le_of_ble_eq_true rfl) dX3_become_75 ?_
  refine tw_aload_n X dX3_become_78 rfl 1 rfl ?_
  refine kgX3_22_3 X  dX3_become_79 ?_
  refine tw_iconst (v := 0) X dX3_become_82 rfl ?_
  refine tw_aload_n X dX3_become_83 rfl 0 rfl ?_
  refine kgX3_22_5 X  dX3_become_84 ?_
  refine tw_iconst (v := 0) X dX3_become_87 rfl ?_
  refine tw_bipush (v := 6) X dX3_become_88 rfl ?_
  obtain ⟨g8, hg8, hf⟩ := bnd hf
  refine kcX3_47_87 X hg8 ⟨Nat.le_of_ble_eq_true rfl, Nat.le_of_ble_eq_true rfl⟩ (Nat.le_of_ble_eq_true rfl) dX3_become_90 ?_
  refine tw_aload_n X dX3_become_93 rfl 1 rfl ?_
  refine kgX3_25_3 X  dX3_become_94 ?_
  refine tw_iconst (v := 0) X dX3_become_97 rfl ?_
  refine tw_aload_n X dX3_become_98 rfl 0 rfl ?_
  refine kgX3_25_5 X  dX3_become_99 ?_
  refine tw_iconst (v := 0) X dX3_become_102 rfl ?_
  refine tw_bipush (v := 6) X dX3_become_103 rfl ?_
  obtain ⟨g9, hg9, hf⟩ := bnd hf
  refine kcX3_48_88 X hg9 ⟨Nat.le_of_ble_eq_true rfl, Nat.le_of_ble_eq_true rfl⟩ (Nat.le_of_ble_eq_true rfl) dX3_become_105 ?_
  refine tw_aload_n X dX3_become_108 rfl 1 rfl ?_
  refine kgX3_28_3 X  dX3_become_109 ?_
  refine tw_iconst (v := 0) X dX3_become_112 rfl ?_
  refine tw_aload_n X dX3_become_113 rfl 0 rfl ?_
  refine kgX3_28_5 X  dX3_become_114 ?_
  refine tw_iconst (v := 0) X dX3_become_117 rfl ?_
  refine tw_bipush (v := 6) X dX3_become_118 rfl ?_
  obtain ⟨g10, hg10, hf⟩ := bnd hf
  refine kcX3_49_89 X hg10 ⟨Nat.le_of_ble_eq_true rfl, Nat.le_of_ble_eq_true rfl⟩ (Nat.le_of_ble_eq_true rfl) dX3_become_120 ?_
  refine tw_aload_n X dX3_become_123 rfl 1 rfl ?_
  refine kgX3_31_3 X  dX3_become_124 ?_
  refine tw_iconst (v := 0) X dX3_become_127 rfl ?_
  refine tw_aload_n X dX3_become_128 rfl 0 rfl ?_
  refine kgX3_31_5 X  dX3_become_129 ?_
  refine tw_iconst (v := 0) X dX3_become_132 rfl ?_
  refine tw_bipush (v := 8) X dX3_become_133 rfl ?_
  obtain ⟨g11, hg11, hf⟩ := bnd hf
  refine kcX3_50_90 X hg11 ⟨Nat.le_of_ble_eq_true rfl, Nat.le_of_ble_eq_true rfl⟩ (Nat.le_of_ble_eq_true rfl) dX3_become_135 ?_
  refine tw_aload_n X dX3_become_138 rfl 1 rfl ?_
  refine kgX3_34_3 X  dX3_become_139 ?_
  refine tw_iconst (v := 0) X dX3_become_142 rfl ?_
  refine tw_aload_n X dX3_become_143 rfl 0 rfl ?_
  refine kgX3_34_5 X  dX3_become_144 ?_
  refine tw_iconst (v := 0) X dX3_become_147 rfl ?_
  refine tw_bipush (v := 8) X dX3_become_148 rfl ?_
  obtain ⟨g12, hg12, hf⟩ := bnd hf
  refine kcX3_51_91 X hg12 ⟨Nat.le_of_ble_eq_true rfl, Nat.le_of_ble_eq_true rfl⟩ (Nat.le_of_ble_eq_true rfl) dX3_become_150 ?_
  refine tw_aload_n X dX3_become_153 rfl 1 rfl ?_
  refine kgX3_37_3 X  dX3_become_154 ?_
  refine tw_iconst (v := 0) X dX3_become_157 rfl ?_
  refine tw_aload_n X dX3_become_158 rfl 0 rfl ?_
  refine kgX3_37_5 X  dX3_become_159 ?_
  refine tw_iconst (v := 0) X dX3_become_162 rfl ?_
  refine tw_bipush (v := 6) X dX3_become_163 rfl ?_
  obtain ⟨g13, hg13, hf⟩ := bnd hf
  refine kcX3_52_92 X hg13 ⟨Nat.le_of_ble_eq_true rfl, Nat.le_of_ble_eq_true rfl⟩ (Nat.le_of_ble_eq_true rfl) dX3_become_165 ?_
  refine tw_aload_n X dX3_become_168 rfl 1 rfl ?_
  refine kgX3_40_3 X  dX3_become_169 ?_
  refine tw_iconst (v := 0) X dX3_become_172 rfl ?_
  refine tw_aload_n X dX3_become_173 rfl 0 rfl ?_
  refine kgX3_40_5 X  dX3_become_174 ?_
  refine tw_iconst (v := 0) X dX3_become_177 rfl ?_
  refine tw_bipush (v := 6) X dX3_become_178 rfl ?_
  obtain ⟨g14, hg14, hf⟩ := bnd hf
  refine kcX3_53_93 X hg14 ⟨Nat.le_of_ble_eq_true rfl, Nat.le_of_ble_eq_true rfl⟩ (Nat.le_of_ble_eq_true rfl) dX3_become_180 ?_
  refine tw_aload_n X dX3_become_183 rfl 1 rfl ?_
  refine kgX3_43_3 X  dX3_become_184 ?_
  refine tw_iconst (v := 0) X dX3_become_187 rfl ?_
  refine tw_aload_n X dX3_become_188 rfl 0 rfl ?_
  refine kgX3_43_5 X  dX3_become_189 ?_
  refine tw_iconst (v := 0) X dX3_become_192 rfl ?_
  refine tw_bipush (v := 6) X dX3_become_193 rfl ?_
  obtain ⟨g15, hg15, hf⟩ := bnd hf
  refine kcX3_54_94 X hg15 ⟨Nat.le_of_ble_eq_true rfl, Nat.le_of_ble_eq_true rfl⟩ (Nat.le_of_ble_eq_true rfl) dX3_become_195 ?_
  refine tw_aload_n X dX3_become_198 rfl 1 rfl ?_
  refine kgX3_46_3 X  dX3_become_199 ?_
  refine tw_iconst (v := 0) X dX3_become_202 rfl ?_
  refine tw_aload_n X dX3_become_203 rfl 0 rfl ?_
  refine kgX3_46_5 X  dX3_become_204 ?_
  refine tw_iconst (v := 0) X dX3_become_207 rfl ?_
  refine tw_bipush (v := 12) X dX3_become_208 rfl ?_
  obtain ⟨g16, hg16, hf⟩ := bnd hf
  refine kcX3_55_95 X hg16 ⟨Nat.le_of_ble_eq_true rfl, Nat.le_of_ble_eq_true rfl⟩ (Nat.le_of_ble_eq_true rfl) dX3_become_210 ?_
  refine tw_aload_n X dX3_become_213 rfl 1 rfl ?_
  refine kgX3_49_3 X  dX3_become_214 ?_
  refine tw_iconst (v := 0) X dX3_become_217 rfl ?_
  refine tw_aload_n X dX3_become_218 rfl 0 rfl ?_
  refine kgX3_49_5 X  dX3_become_219 ?_
  refine tw_iconst (v := 0) X dX3_become_222 rfl ?_
  refine tw_bipush (v := 12) X dX3_become_223 rfl ?_
  obtain ⟨g17, hg17, hf⟩ := bnd hf
  refine kcX3_56_96 X hg17 ⟨Nat.le_of_ble_eq_true rfl, Nat.le_of_ble_eq_true rfl⟩ (Nat.le_of_ble_eq_true rfl) dX3_become_225 ?_
  refine tw_aload_n X dX3_become_228 rfl 1 rfl ?_
  refine kgX3_52_3 X  dX3_become_229 ?_
  refine tw_iconst (v := 0) X dX3_become_232 rfl ?_
  refine tw_aload_n X dX3_become_233 rfl 0 rfl ?_
  refine kgX3_52_5 X  dX3_become_234 ?_
  refine tw_iconst (v := 0) X dX3_become_237 rfl ?_
  refine tw_bipush (v := 12) X dX3_become_238 rfl ?_
  obtain ⟨g18, hg18, hf⟩ := bnd hf
  refine kcX3_57_97 X hg18 ⟨Nat.le_of_ble_eq_true rfl, Nat.le_of_ble_eq_true rfl⟩ (Nat.le_of_ble_eq_true rfl) dX3_become_240 ?_
  exact tw_vret X hr (Option.some.inj hf) dX3_become_243
