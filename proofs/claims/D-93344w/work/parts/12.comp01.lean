/-! THE COMPONENT's METHODS (printed by gen/mk_comp.py) -/
set_option maxRecDepth 100000
noncomputable def kF_isLetter (a1 : Int32) : Int32 :=
  if a1 < (97 : Int32) then
    (0 : Int32)
  else
    if (122 : Int32) < a1 then
      (0 : Int32)
    else
      (1 : Int32)
set_option maxHeartbeats 4000000 in
theorem kC_isLetter {l : Launch} {D : va_G} {A : Nat → Prop} {K : Nat → Nat} {δ : Nat → ClassId} {sr ρ : Rf} {dy : va_W} {g : St} (a1 : Int32) : Ct l yX0_isLetter cX0_isLetter 1 (some .boolean) 0 0 D vwCl (kT δ) A (kW K δ sr ρ dy) [.int a1] g (QZ D vwCl A (kW K δ sr ρ dy) (kF_isLetter a1) g) := by
  generalize hf : kF_isLetter a1 = z
  unfold kF_isLetter at hf
  refine ct_intro (own := RX0) (lv0 := [(0, .int a1)]) (by decide) rfl (Nat.le_of_ble_eq_true rfl) rfl ?_
  intro p e s m args below meth c X hr
  refine tw_iload_n X dX0_isLetter_0 rfl 0 rfl ?_
  refine tw_bipush (v := 97) X dX0_isLetter_1 rfl ?_
  refine tw_icmp_lt (tgt := 16) X dX0_isLetter_3 rfl hf (fun q2 hf => ?_) (fun q2 hf => ?_)
  · clear q2
    refine tw_iconst (v := 0) X dX0_isLetter_16 rfl ?_
    exact tw_zret X hr (Or.inl rfl) hf rfl dX0_isLetter_17
  · clear q2
    refine tw_iload_n X dX0_isLetter_6 rfl 0 rfl ?_
    refine tw_bipush (v := 122) X dX0_isLetter_7 rfl ?_
    refine tw_icmp_gt (tgt := 16) X dX0_isLetter_9 rfl hf (fun q1 hf => ?_) (fun q1 hf => ?_)
    · clear q1
      refine tw_iconst (v := 0) X dX0_isLetter_16 rfl ?_
      exact tw_zret X hr (Or.inl rfl) hf rfl dX0_isLetter_17
    · clear q1
      refine tw_iconst (v := 1) X dX0_isLetter_12 rfl ?_
      refine tw_goto (tgt := 17) X dX0_isLetter_13 rfl ?_
      exact tw_zret X hr (Or.inr rfl) hf rfl dX0_isLetter_17
noncomputable def kF_isDigit (a1 : Int32) : Int32 :=
  if a1 < (48 : Int32) then
    (0 : Int32)
  else
    if (57 : Int32) < a1 then
      (0 : Int32)
    else
      (1 : Int32)
set_option maxHeartbeats 4000000 in
theorem kC_isDigit {l : Launch} {D : va_G} {A : Nat → Prop} {K : Nat → Nat} {δ : Nat → ClassId} {sr ρ : Rf} {dy : va_W} {g : St} (a1 : Int32) : Ct l yX0_isDigit cX0_isDigit 1 (some .boolean) 0 0 D vwCl (kT δ) A (kW K δ sr ρ dy) [.int a1] g (QZ D vwCl A (kW K δ sr ρ dy) (kF_isDigit a1) g) := by
  generalize hf : kF_isDigit a1 = z
  unfold kF_isDigit at hf
  refine ct_intro (own := RX0) (lv0 := [(0, .int a1)]) (by decide) rfl (Nat.le_of_ble_eq_true rfl) rfl ?_
  intro p e s m args below meth c X hr
  refine tw_iload_n X dX0_isDigit_0 rfl 0 rfl ?_
  refine tw_bipush (v := 48) X dX0_isDigit_1 rfl ?_
  refine tw_icmp_lt (tgt := 16) X dX0_isDigit_3 rfl hf (fun q2 hf => ?_) (fun q2 hf => ?_)
  · clear q2
    refine tw_iconst (v := 0) X dX0_isDigit_16 rfl ?_
    exact tw_zret X hr (Or.inl rfl) hf rfl dX0_isDigit_17
  · clear q2
    refine tw_iload_n X dX0_isDigit_6 rfl 0 rfl ?_
    refine tw_bipush (v := 57) X dX0_isDigit_7 rfl ?_
    refine tw_icmp_gt (tgt := 16) X dX0_isDigit_9 rfl hf (fun q1 hf => ?_) (fun q1 hf => ?_)
    · clear q1
      refine tw_iconst (v := 0) X dX0_isDigit_16 rfl ?_
      exact tw_zret X hr (Or.inl rfl) hf rfl dX0_isDigit_17
    · clear q1
      refine tw_iconst (v := 1) X dX0_isDigit_12 rfl ?_
      refine tw_goto (tgt := 17) X dX0_isDigit_13 rfl ?_
      exact tw_zret X hr (Or.inr rfl) hf rfl dX0_isDigit_17
noncomputable def kF_next (g : St) : Option (St) :=
  Option.bind (α := Int32) (β := St)
    (iter (L := Int32) (T := Int32) (fun s63 => 
      if (g 0 11) ≤ s63 then
        some (.inr s63)
      else
        (rd (g 11) 200 s63).bind fun x66 =>
        if x66 = (32 : Int32) then
          some (.inl (s63 + (1 : Int32)))
        else
          some (.inr s63)) (g 0 13))
    (fun j1 => (pf g 0 12 j1).bind fun g3 =>
    Option.bind (α := Int32) (β := St)
      (if (g3 0 11) ≤ j1 then
        some (0 : Int32)
      else
        (rd (g3 11) 200 j1).bind fun x58 =>
        if (kF_isLetter x58) = 0 then
          some (0 : Int32)
        else
          some (1 : Int32))
      (fun j4 => Option.bind (α := Int32) (β := St)
        (if (g3 0 11) ≤ j1 then
          some (0 : Int32)
        else
          (rd (g3 11) 200 j1).bind fun x53 =>
          if (kF_isDigit x53) = 0 then
            some (0 : Int32)
          else
            some (1 : Int32))
        (fun j6 => if (g3 0 11) ≤ j1 then
          iter (L := Int32) (T := St) (fun s8 => 
            if (g3 0 11) ≤ s8 then
              (pf g3 0 13 s8).bind fun g10 =>
              some (.inr g10)
            else
              jn (S := Unit) (T := ((Int32) ⊕ (St)))
                (if j4 = 0 then
                  some (.inl ())
                else
                  (rd (g3 11) 200 s8).bind fun x22 =>
                  if (kF_isLetter x22) = 0 then
                    some (.inl ())
                  else
                    some (.inr (.inl (s8 + (1 : Int32)))))
                (fun j12 => if j6 = 0 then
                  (pf g3 0 13 s8).bind fun g14 =>
                  some (.inr g14)
                else
                  (rd (g3 11) 200 s8).bind fun x16 =>
                  if (kF_isDigit x16) = 0 then
                    (pf g3 0 13 s8).bind fun g18 =>
                    some (.inr g18)
                  else
                    some (.inl (s8 + (1 : Int32))))) j1
        else
          iter (L := Int32) (T := St) (fun s30 => 
            if (g3 0 11) ≤ s30 then
              (pf g3 0 13 s30).bind fun g32 =>
              some (.inr g32)
            else
              jn (S := Unit) (T := ((Int32) ⊕ (St)))
                (if j4 = 0 then
                  some (.inl ())
                else
                  (rd (g3 11) 200 s30).bind fun x44 =>
                  if (kF_isLetter x44) = 0 then
                    some (.inl ())
                  else
                    some (.inr (.inl (s30 + (1 : Int32)))))
                (fun j34 => if j6 = 0 then
                  (pf g3 0 13 s30).bind fun g36 =>
                  some (.inr g36)
                else
                  (rd (g3 11) 200 s30).bind fun x38 =>
                  if (kF_isDigit x38) = 0 then
                    (pf g3 0 13 s30).bind fun g40 =>
                    some (.inr g40)
                  else
                    some (.inl (s30 + (1 : Int32))))) (j1 + (1 : Int32)))))
set_option maxHeartbeats 4000000 in
theorem kC_next {l : Launch} {D : va_G} {A : Nat → Prop} {K : Nat → Nat} {δ : Nat → ClassId} {sr ρ : Rf} {dy : va_W} {g : St} {z : St} (hf : kF_next g = some z) : Ct l yX0_next cX0_next 4 none 1 20 D vwCl (kT δ) A (kW K δ sr ρ dy) [.ref (K 0)] g (QV D vwCl A (kW K δ sr ρ dy) z) := by
  unfold kF_next at hf
  refine ct_intro (own := RX0) (lv0 := [(0, .ref (K 0))]) (by decide) rfl (Nat.le_of_ble_eq_true rfl) rfl ?_
  intro p e s m args below meth c X hr
  refine tw_aload_n X dX0_next_0 rfl 0 rfl ?_
  refine kgX0_222_0 X  dX0_next_1 ?_
  refine tw_istore_n (lv' := [(1, .int (g 0 13)), (0, .ref (K 0))]) X dX0_next_4 rfl (by decide) rfl ?_
  refine bj_walk (P := fun j1 : Int32 => TW p l e (rom 1 20) s m args below meth c (MQ below (QV D vwCl A (kW K δ sr ρ dy) z) args s 0 0 A) D vwCl A (kW K δ sr ρ dy) 4 0 0 g 30 [(0, .ref (K 0)), (1, .int j1)] []) hf ?_ ?_
  · intro j1 hf
    refine tw_aload_n X dX0_next_30 rfl 0 rfl ?_
    refine tw_iload_n X dX0_next_31 rfl 1 rfl ?_
    obtain ⟨g3, hg3, hf⟩ := bnd hf
    refine kpX0_225_0 X hg3 dX0_next_32 ?_
    refine tw_iload_n X dX0_next_35 rfl 1 rfl ?_
    refine tw_aload_n X dX0_next_36 rfl 0 rfl ?_
    refine kgX0_219_0 X  dX0_next_37 ?_
    refine bj_walk (P := fun j4 : Int32 => TW p l e (rom 1 20) s m args below meth c (MQ below (QV D vwCl A (kW K δ sr ρ dy) z) args s 0 0 A) D vwCl A (kW K δ sr ρ dy) 4 0 0 g3 60 [(0, .ref (K 0)), (1, .int j1)] [.int j4]) hf ?_ ?_
    · intro j4 hf
      refine tw_istore_n (lv' := [(2, .int j4), (0, .ref (K 0)), (1, .int j1)]) X dX0_next_60 rfl (by decide) rfl ?_
      refine tw_iload_n X dX0_next_61 rfl 2 rfl ?_
      refine tw_aload_n X dX0_next_62 rfl 1 rfl ?_
      refine kgX0_219_0 X  dX0_next_63 ?_
      refine bj_walk (P := fun j6 : Int32 => TW p l e (rom 1 20) s m args below meth c (MQ below (QV D vwCl A (kW K δ sr ρ dy) z) args s 0 0 A) D vwCl A (kW K δ sr ρ dy) 4 0 0 g3 86 [(0, .ref (K 0)), (1, .int j1), (2, .int j4)] [.int j6]) hf ?_ ?_
      · intro j6 hf
        refine tw_istore_n (lv' := [(3, .int j6), (0, .ref (K 0)), (1, .int j1), (2, .int j4)]) X dX0_next_86 rfl (by decide) rfl ?_
        refine tw_iload_n X dX0_next_87 rfl 2 rfl ?_
        refine tw_aload_n X dX0_next_88 rfl 1 rfl ?_
        refine kgX0_219_0 X  dX0_next_89 ?_
        refine tw_icmp_ge (tgt := 98) X dX0_next_92 rfl hf (fun q52 hf => ?_) (fun q52 hf => ?_)
        · clear q52
          refine tw_sub [1, 2, 3, 0] (lv' := [(0, .ref (K 0)), (1, .int j1), (2, .int j4), (3, .int j6)]) rfl ?_
          refine it_walk (P := fun s8 : Int32 => TW p l e (rom 1 20) s m args below meth c (MQ below (QV D vwCl A (kW K δ sr ρ dy) z) args s 0 0 A) D vwCl A (kW K δ sr ρ dy) 4 0 0 g3 98 [(0, .ref (K 0)), (1, .int s8), (2, .int j4), (3, .int j6)] []) hf ?_
          intro s8 zz29 hf hl9
          refine tw_iload_n X dX0_next_98 rfl 1 rfl ?_
          refine tw_aload_n X dX0_next_99 rfl 0 rfl ?_
          refine kgX0_219_0 X  dX0_next_100 ?_
          refine tw_icmp_ge (tgt := 144) X dX0_next_103 rfl hf (fun q28 hf => ?_) (fun q28 hf => ?_)
          · clear q28
            refine tw_aload_n X dX0_next_144 rfl 0 rfl ?_
            refine tw_iload_n X dX0_next_145 rfl 1 rfl ?_
            obtain ⟨g10, hg10, hf⟩ := bnd hf
            refine kpX0_222_0 X hg10 dX0_next_146 ?_
            have hf11 := leafR hf hl9
            exact tw_vret X hr (Option.some.inj hf11) dX0_next_149
          · clear q28
            refine tw_iload_n X dX0_next_106 rfl 2 rfl ?_
            refine jn_walk (P := fun j12 : Unit => TW p l e (rom 1 20) s m args below meth c (MQ below (QV D vwCl A (kW K δ sr ρ dy) z) args s 0 0 A) D vwCl A (kW K δ sr ρ dy) 4 0 0 g3 122 [(0, .ref (K 0)), (1, .int s8), (2, .int j4), (3, .int j6)] []) hf ?_ ?_
            · intro j12 hf
              refine tw_iload_n X dX0_next_122 rfl 3 rfl ?_
              refine tw_if_eq (tgt := 144) X dX0_next_123 rfl hf (fun q21 hf => ?_) (fun q21 hf => ?_)
              · clear q21
                refine tw_aload_n X dX0_next_144 rfl 0 rfl ?_
                refine tw_iload_n X dX0_next_145 rfl 1 rfl ?_
                obtain ⟨g14, hg14, hf⟩ := bnd hf
                refine kpX0_222_0 X hg14 dX0_next_146 ?_
                have hf15 := leafR hf hl9
                exact tw_vret X hr (Option.some.inj hf15) dX0_next_149
              · clear q21
                refine tw_aload_n X dX0_next_126 rfl 0 rfl ?_
                refine kgX0_103_0 X  dX0_next_127 ?_
                refine tw_iload_n X dX0_next_130 rfl 1 rfl ?_
                obtain ⟨x16, hx16, hf⟩ := bnd hf
                refine klX0_11 X hx16 dX0_next_131 ?_
                refine tw_callSz (As := [.int x16]) (st := []) X (kC_isDigit (g := g3) x16) kGX0_231 kI_X0_isDigit ⟨Nat.le_of_ble_eq_true rfl, Nat.le_of_ble_eq_true rfl⟩ ⟨Nat.zero_le _, Nat.zero_le _⟩ rfl rfl (Nat.le_of_ble_eq_true rfl) dX0_next_132 ?_
                intro hb17
                refine tw_if_eq (tgt := 144) X dX0_next_135 rfl hf (fun q20 hf => ?_) (fun q20 hf => ?_)
                · clear q20
                  refine tw_aload_n X dX0_next_144 rfl 0 rfl ?_
                  refine tw_iload_n X dX0_next_145 rfl 1 rfl ?_
                  obtain ⟨g18, hg18, hf⟩ := bnd hf
                  refine kpX0_222_0 X hg18 dX0_next_146 ?_
                  have hf19 := leafR hf hl9
                  exact tw_vret X hr (Option.some.inj hf19) dX0_next_149
                · clear q20
                  refine tw_iinc (q := 1) (v := (s8 + (1 : Int32))) (lv' := [(1, .int (s8 + (1 : Int32))), (0, .ref (K 0)), (2, .int j4), (3, .int j6)]) X dX0_next_138 rfl rfl (by decide) rfl ?_
                  refine tw_goto (tgt := 98) X dX0_next_141 rfl ?_
                  refine tw_sub [1, 0, 2, 3] (lv' := [(0, .ref (K 0)), (1, .int (s8 + (1 : Int32))), (2, .int j4), (3, .int j6)]) rfl ?_
                  have hL := leafL hf hl9
                  exact hL
            · intro zz27 hf hk13
              refine tw_if_eq (tgt := 122) X dX0_next_107 rfl hf (fun q26 hf => ?_) (fun q26 hf => ?_)
              · clear q26
                have hL := leafL hf hk13
                exact hL
              · clear q26
                refine tw_aload_n X dX0_next_110 rfl 0 rfl ?_
                refine kgX0_103_0 X  dX0_next_111 ?_
                refine tw_iload_n X dX0_next_114 rfl 1 rfl ?_
                obtain ⟨x22, hx22, hf⟩ := bnd hf
                refine klX0_11 X hx22 dX0_next_115 ?_
                refine tw_callSz (As := [.int x22]) (st := []) X (kC_isLetter (g := g3) x22) kGX0_228 kI_X0_isLetter ⟨Nat.le_of_ble_eq_true rfl, Nat.le_of_ble_eq_true rfl⟩ ⟨Nat.zero_le _, Nat.zero_le _⟩ rfl rfl (Nat.le_of_ble_eq_true rfl) dX0_next_116 ?_
                intro hb23
                refine tw_if_ne (tgt := 138) X dX0_next_119 rfl hf (fun q25 hf => ?_) (fun q25 hf => ?_)
                · clear q25
                  have hL := leafL hf hk13
                  exact hL
                · clear q25
                  refine tw_iinc (q := 1) (v := (s8 + (1 : Int32))) (lv' := [(1, .int (s8 + (1 : Int32))), (0, .ref (K 0)), (2, .int j4), (3, .int j6)]) X dX0_next_138 rfl rfl (by decide) rfl ?_
                  refine tw_goto (tgt := 98) X dX0_next_141 rfl ?_
                  have hf24 := leafR hf hk13
                  refine tw_sub [1, 0, 2, 3] (lv' := [(0, .ref (K 0)), (1, .int (s8 + (1 : Int32))), (2, .int j4), (3, .int j6)]) rfl ?_
                  have hL := leafL hf24 hl9
                  exact hL
        · clear q52
          refine tw_iinc (q := 2) (v := (j1 + (1 : Int32))) (lv' := [(1, .int (j1 + (1 : Int32))), (3, .int j6), (0, .ref (K 0)), (2, .int j4)]) X dX0_next_95 rfl rfl (by decide) rfl ?_
          refine tw_sub [2, 0, 3, 1] (lv' := [(0, .ref (K 0)), (1, .int (j1 + (1 : Int32))), (2, .int j4), (3, .int j6)]) rfl ?_
          refine it_walk (P := fun s30 : Int32 => TW p l e (rom 1 20) s m args below meth c (MQ below (QV D vwCl A (kW K δ sr ρ dy) z) args s 0 0 A) D vwCl A (kW K δ sr ρ dy) 4 0 0 g3 98 [(0, .ref (K 0)), (1, .int s30), (2, .int j4), (3, .int j6)] []) hf ?_
          intro s30 zz51 hf hl31
          refine tw_iload_n X dX0_next_98 rfl 1 rfl ?_
          refine tw_aload_n X dX0_next_99 rfl 0 rfl ?_
          refine kgX0_219_0 X  dX0_next_100 ?_
          refine tw_icmp_ge (tgt := 144) X dX0_next_103 rfl hf (fun q50 hf => ?_) (fun q50 hf => ?_)
          · clear q50
            refine tw_aload_n X dX0_next_144 rfl 0 rfl ?_
            refine tw_iload_n X dX0_next_145 rfl 1 rfl ?_
            obtain ⟨g32, hg32, hf⟩ := bnd hf
            refine kpX0_222_0 X hg32 dX0_next_146 ?_
            have hf33 := leafR hf hl31
            exact tw_vret X hr (Option.some.inj hf33) dX0_next_149
          · clear q50
            refine tw_iload_n X dX0_next_106 rfl 2 rfl ?_
            refine jn_walk (P := fun j34 : Unit => TW p l e (rom 1 20) s m args below meth c (MQ below (QV D vwCl A (kW K δ sr ρ dy) z) args s 0 0 A) D vwCl A (kW K δ sr ρ dy) 4 0 0 g3 122 [(0, .ref (K 0)), (1, .int s30), (2, .int j4), (3, .int j6)] []) hf ?_ ?_
            · intro j34 hf
              refine tw_iload_n X dX0_next_122 rfl 3 rfl ?_
              refine tw_if_eq (tgt := 144) X dX0_next_123 rfl hf (fun q43 hf => ?_) (fun q43 hf => ?_)
              · clear q43
                refine tw_aload_n X dX0_next_144 rfl 0 rfl ?_
                refine tw_iload_n X dX0_next_145 rfl 1 rfl ?_
                obtain ⟨g36, hg36, hf⟩ := bnd hf
                refine kpX0_222_0 X hg36 dX0_next_146 ?_
                have hf37 := leafR hf hl31
                exact tw_vret X hr (Option.some.inj hf37) dX0_next_149
              · clear q43
                refine tw_aload_n X dX0_next_126 rfl 0 rfl ?_
                refine kgX0_103_0 X  dX0_next_127 ?_
                refine tw_iload_n X dX0_next_130 rfl 1 rfl ?_
                obtain ⟨x38, hx38, hf⟩ := bnd hf
                refine klX0_11 X hx38 dX0_next_131 ?_
                refine tw_callSz (As := [.int x38]) (st := []) X (kC_isDigit (g := g3) x38) kGX0_231 kI_X0_isDigit ⟨Nat.le_of_ble_eq_true rfl, Nat.le_of_ble_eq_true rfl⟩ ⟨Nat.zero_le _, Nat.zero_le _⟩ rfl rfl (Nat.le_of_ble_eq_true rfl) dX0_next_132 ?_
                intro hb39
                refine tw_if_eq (tgt := 144) X dX0_next_135 rfl hf (fun q42 hf => ?_) (fun q42 hf => ?_)
                · clear q42
                  refine tw_aload_n X dX0_next_144 rfl 0 rfl ?_
                  refine tw_iload_n X dX0_next_145 rfl 1 rfl ?_
                  obtain ⟨g40, hg40, hf⟩ := bnd hf
                  refine kpX0_222_0 X hg40 dX0_next_146 ?_
                  have hf41 := leafR hf hl31
                  exact tw_vret X hr (Option.some.inj hf41) dX0_next_149
                · clear q42
                  refine tw_iinc (q := 1) (v := (s30 + (1 : Int32))) (lv' := [(1, .int (s30 + (1 : Int32))), (0, .ref (K 0)), (2, .int j4), (3, .int j6)]) X dX0_next_138 rfl rfl (by decide) rfl ?_
                  refine tw_goto (tgt := 98) X dX0_next_141 rfl ?_
                  refine tw_sub [1, 0, 2, 3] (lv' := [(0, .ref (K 0)), (1, .int (s30 + (1 : Int32))), (2, .int j4), (3, .int j6)]) rfl ?_
                  have hL := leafL hf hl31
                  exact hL
            · intro zz49 hf hk35
              refine tw_if_eq (tgt := 122) X dX0_next_107 rfl hf (fun q48 hf => ?_) (fun q48 hf => ?_)
              · clear q48
                have hL := leafL hf hk35
                exact hL
              · clear q48
                refine tw_aload_n X dX0_next_110 rfl 0 rfl ?_
                refine kgX0_103_0 X  dX0_next_111 ?_
                refine tw_iload_n X dX0_next_114 rfl 1 rfl ?_
                obtain ⟨x44, hx44, hf⟩ := bnd hf
                refine klX0_11 X hx44 dX0_next_115 ?_
                refine tw_callSz (As := [.int x44]) (st := []) X (kC_isLetter (g := g3) x44) kGX0_228 kI_X0_isLetter ⟨Nat.le_of_ble_eq_true rfl, Nat.le_of_ble_eq_true rfl⟩ ⟨Nat.zero_le _, Nat.zero_le _⟩ rfl rfl (Nat.le_of_ble_eq_true rfl) dX0_next_116 ?_
                intro hb45
                refine tw_if_ne (tgt := 138) X dX0_next_119 rfl hf (fun q47 hf => ?_) (fun q47 hf => ?_)
                · clear q47
                  have hL := leafL hf hk35
                  exact hL
                · clear q47
                  refine tw_iinc (q := 1) (v := (s30 + (1 : Int32))) (lv' := [(1, .int (s30 + (1 : Int32))), (0, .ref (K 0)), (2, .int j4), (3, .int j6)]) X dX0_next_138 rfl rfl (by decide) rfl ?_
                  refine tw_goto (tgt := 98) X dX0_next_141 rfl ?_
                  have hf46 := leafR hf hk35
                  refine tw_sub [1, 0, 2, 3] (lv' := [(0, .ref (K 0)), (1, .int (s30 + (1 : Int32))), (2, .int j4), (3, .int j6)]) rfl ?_
                  have hL := leafL hf46 hl31
                  exact hL
      · intro zz57 hf hk7
        refine tw_icmp_ge (tgt := 85) X dX0_next_66 rfl hf (fun q56 hf => ?_) (fun q56 hf => ?_)
        · clear q56
          refine tw_iconst (v := 0) X dX0_next_85 rfl ?_
          refine tw_sub [1, 2, 0] (lv' := [(0, .ref (K 0)), (1, .int j1), (2, .int j4)]) rfl ?_
          have hL := hk7 _ hf
          exact hL
        · clear q56
          refine tw_aload_n X dX0_next_69 rfl 1 rfl ?_
          refine kgX0_103_0 X  dX0_next_70 ?_
          refine tw_iload_n X dX0_next_73 rfl 2 rfl ?_
          obtain ⟨x53, hx53, hf⟩ := bnd hf
          refine klX0_11 X hx53 dX0_next_74 ?_
          refine tw_callSz (As := [.int x53]) (st := []) X (kC_isDigit (g := g3) x53) kGX0_231 kI_X0_isDigit ⟨Nat.le_of_ble_eq_true rfl, Nat.le_of_ble_eq_true rfl⟩ ⟨Nat.zero_le _, Nat.zero_le _⟩ rfl rfl (Nat.le_of_ble_eq_true rfl) dX0_next_75 ?_
          intro hb54
          refine tw_if_eq (tgt := 85) X dX0_next_78 rfl hf (fun q55 hf => ?_) (fun q55 hf => ?_)
          · clear q55
            refine tw_iconst (v := 0) X dX0_next_85 rfl ?_
            refine tw_sub [1, 2, 0] (lv' := [(0, .ref (K 0)), (1, .int j1), (2, .int j4)]) rfl ?_
            have hL := hk7 _ hf
            exact hL
          · clear q55
            refine tw_iconst (v := 1) X dX0_next_81 rfl ?_
            refine tw_goto (tgt := 86) X dX0_next_82 rfl ?_
            refine tw_sub [1, 2, 0] (lv' := [(0, .ref (K 0)), (1, .int j1), (2, .int j4)]) rfl ?_
            have hL := hk7 _ hf
            exact hL
    · intro zz62 hf hk5
      refine tw_icmp_ge (tgt := 59) X dX0_next_40 rfl hf (fun q61 hf => ?_) (fun q61 hf => ?_)
      · clear q61
        refine tw_iconst (v := 0) X dX0_next_59 rfl ?_
        have hL := hk5 _ hf
        exact hL
      · clear q61
        refine tw_aload_n X dX0_next_43 rfl 0 rfl ?_
        refine kgX0_103_0 X  dX0_next_44 ?_
        refine tw_iload_n X dX0_next_47 rfl 1 rfl ?_
        obtain ⟨x58, hx58, hf⟩ := bnd hf
        refine klX0_11 X hx58 dX0_next_48 ?_
        refine tw_callSz (As := [.int x58]) (st := []) X (kC_isLetter (g := g3) x58) kGX0_228 kI_X0_isLetter ⟨Nat.le_of_ble_eq_true rfl, Nat.le_of_ble_eq_true rfl⟩ ⟨Nat.zero_le _, Nat.zero_le _⟩ rfl rfl (Nat.le_of_ble_eq_true rfl) dX0_next_49 ?_
        intro hb59
        refine tw_if_eq (tgt := 59) X dX0_next_52 rfl hf (fun q60 hf => ?_) (fun q60 hf => ?_)
        · clear q60
          refine tw_iconst (v := 0) X dX0_next_59 rfl ?_
          have hL := hk5 _ hf
          exact hL
        · clear q60
          refine tw_iconst (v := 1) X dX0_next_55 rfl ?_
          refine tw_goto (tgt := 60) X dX0_next_56 rfl ?_
          have hL := hk5 _ hf
          exact hL
  · intro zz71 hf hk2
    refine tw_sub [1, 0] (lv' := [(0, .ref (K 0)), (1, .int (g 0 13))]) rfl ?_
    refine it_walk (P := fun s63 : Int32 => TW p l e (rom 1 20) s m args below meth c (MQ below (QV D vwCl A (kW K δ sr ρ dy) z) args s 0 0 A) D vwCl A (kW K δ sr ρ dy) 4 0 0 g 5 [(0, .ref (K 0)), (1, .int s63)] []) hf ?_
    intro s63 zz70 hf hl64
    refine tw_iload_n X dX0_next_5 rfl 1 rfl ?_
    refine tw_aload_n X dX0_next_6 rfl 0 rfl ?_
    refine kgX0_219_0 X  dX0_next_7 ?_
    refine tw_icmp_ge (tgt := 30) X dX0_next_10 rfl hf (fun q69 hf => ?_) (fun q69 hf => ?_)
    · clear q69
      have hf65 := leafR hf hl64
      have hL := hk2 _ hf65
      exact hL
    · clear q69
      refine tw_aload_n X dX0_next_13 rfl 0 rfl ?_
      refine kgX0_103_0 X  dX0_next_14 ?_
      refine tw_iload_n X dX0_next_17 rfl 1 rfl ?_
      obtain ⟨x66, hx66, hf⟩ := bnd hf
      refine klX0_11 X hx66 dX0_next_18 ?_
      refine tw_bipush (v := 32) X dX0_next_19 rfl ?_
      refine tw_icmp_ne (tgt := 30) X dX0_next_21 rfl hf (fun q68 hf => ?_) (fun q68 hf => ?_)
      · clear q68
        refine tw_iinc (q := 1) (v := (s63 + (1 : Int32))) (lv' := [(1, .int (s63 + (1 : Int32))), (0, .ref (K 0))]) X dX0_next_24 rfl rfl (by decide) rfl ?_
        refine tw_goto (tgt := 5) X dX0_next_27 rfl ?_
        refine tw_sub [1, 0] (lv' := [(0, .ref (K 0)), (1, .int (s63 + (1 : Int32)))]) rfl ?_
        have hL := leafL hf hl64
        exact hL
      · clear q68
        have hf67 := leafR hf hl64
        have hL := hk2 _ hf67
        exact hL
noncomputable def kF_canTrade (E : EE) (g : St) (a1 : Int32) : Option (Int32 × St) :=
  (kF_X3_isWhole g a1).bind fun x1 =>
  if x1 = 0 then
    (rd (g 47) 6 a1).bind fun x3 =>
    (rd (g 51) 8 x3).bind fun x4 =>
    if x4 ≤ 0 then
      some ((0 : Int32), g)
    else
      (rd (g 46) 6 a1).bind fun x5 =>
      (rd (g 51) 8 x5).bind fun x6 =>
      if (99 : Int32) ≤ x6 then
        some ((0 : Int32), g)
      else
        (kF_priceOf E g a1).bind (un2 fun y7a y7b =>
        (rd (y7b 48) 6 a1).bind fun x8 =>
        if x8 < y7a then
          some ((0 : Int32), y7b)
        else
          some ((1 : Int32), y7b))
  else
    some ((0 : Int32), g)
set_option maxHeartbeats 4000000 in
theorem kC_canTrade {l : Launch} {D : va_G} {A : Nat → Prop} {K : Nat → Nat} {δ : Nat → ClassId} {sr ρ : Rf} {dy : va_W} {E : EE} (hE : EOK δ ρ dy E) {g : St} {a1 : Int32} {z : Int32 × St} (hf : kF_canTrade E g a1 = some z) : Ct l yX0_canTrade cX0_canTrade 2 (some .boolean) 224 5166 D vwCl (kT δ) A (kW K δ sr ρ dy) [.ref (K 0), .int a1] g (QZ D vwCl A (kW K δ sr ρ dy) z.1 z.2) := by
  unfold kF_canTrade at hf
  refine ct_intro (own := RX0) (lv0 := [(0, .ref (K 0)), (1, .int a1)]) (by decide) rfl (Nat.le_of_ble_eq_true rfl) rfl ?_
  intro p e s m args below meth c X hr
  refine tw_aload_n X dX0_canTrade_0 rfl 0 rfl ?_
  refine kgX0_47_0 X  dX0_canTrade_1 ?_
  refine tw_iload_n X dX0_canTrade_4 rfl 1 rfl ?_
  obtain ⟨x1, hx1, hf⟩ := bnd hf
  refine tw_callVz (As := [.int a1]) (st := []) X (kC_X3_isWhole hx1) kGX0_192 kI_X3_isWhole ⟨Nat.le_of_ble_eq_true rfl, Nat.le_of_ble_eq_true rfl⟩ ⟨Nat.zero_le _, Nat.zero_le _⟩ 3 rfl rfl rfl rfl (Nat.le_of_ble_eq_true rfl) dX0_canTrade_5 ?_
  intro hb2
  refine tw_if_ne (tgt := 74) X dX0_canTrade_8 rfl hf (fun q12 hf => ?_) (fun q12 hf => ?_)
  · clear q12
    refine tw_aload_n X dX0_canTrade_11 rfl 0 rfl ?_
    refine kgX0_47_0 X  dX0_canTrade_12 ?_
    refine kgX0_201_3 X  dX0_canTrade_15 ?_
    refine tw_aload_n X dX0_canTrade_18 rfl 0 rfl ?_
    refine kgX0_47_0 X  dX0_canTrade_19 ?_
    refine kgX0_160_3 X  dX0_canTrade_22 ?_
    refine tw_iload_n X dX0_canTrade_25 rfl 1 rfl ?_
    obtain ⟨x3, hx3, hf⟩ := bnd hf
    refine klX0_47 X hx3 dX0_canTrade_26 ?_
    obtain ⟨x4, hx4, hf⟩ := bnd hf
    refine klX0_51 X hx4 dX0_canTrade_27 ?_
    refine tw_if_le (tgt := 74) X dX0_canTrade_28 rfl hf (fun q11 hf => ?_) (fun q11 hf => ?_)
    · clear q11
      refine tw_iconst (v := 0) X dX0_canTrade_74 rfl ?_
      exact tw_zret X hr (Or.inl rfl) (prj1 hf) (prj2 hf) dX0_canTrade_75
    · clear q11
      refine tw_aload_n X dX0_canTrade_31 rfl 0 rfl ?_
      refine kgX0_47_0 X  dX0_canTrade_32 ?_
      refine kgX0_201_3 X  dX0_canTrade_35 ?_
      refine tw_aload_n X dX0_canTrade_38 rfl 0 rfl ?_
      refine kgX0_47_0 X  dX0_canTrade_39 ?_
      refine kgX0_174_3 X  dX0_canTrade_42 ?_
      refine tw_iload_n X dX0_canTrade_45 rfl 1 rfl ?_
      obtain ⟨x5, hx5, hf⟩ := bnd hf
      refine klX0_46 X hx5 dX0_canTrade_46 ?_
      obtain ⟨x6, hx6, hf⟩ := bnd hf
      refine klX0_51 X hx6 dX0_canTrade_47 ?_
      refine tw_bipush (v := 99) X dX0_canTrade_48 rfl ?_
      refine tw_icmp_ge (tgt := 74) X dX0_canTrade_50 rfl hf (fun q10 hf => ?_) (fun q10 hf => ?_)
      · clear q10
        refine tw_iconst (v := 0) X dX0_canTrade_74 rfl ?_
        exact tw_zret X hr (Or.inl rfl) (prj1 hf) (prj2 hf) dX0_canTrade_75
      · clear q10
        refine tw_aload_n X dX0_canTrade_53 rfl 0 rfl ?_
        refine tw_iload_n X dX0_canTrade_54 rfl 1 rfl ?_
        obtain ⟨⟨y7a, y7b⟩, hy7, hf⟩ := bnd hf
        dsimp only [un2] at hf
        refine tw_callVi (As := [.int a1]) (st := []) X (kC_priceOf hE hy7) kGX0_188 kI_X0_priceOf ⟨Nat.le_of_ble_eq_true rfl, Nat.le_of_ble_eq_true rfl⟩ ⟨Nat.zero_le _, Nat.zero_le _⟩ 0 rfl rfl rfl rfl (Nat.le_of_ble_eq_true rfl) dX0_canTrade_55 ?_
        refine tw_aload_n X dX0_canTrade_58 rfl 0 rfl ?_
        refine kgX0_47_0 X  dX0_canTrade_59 ?_
        refine kgX0_176_3 X  dX0_canTrade_62 ?_
        refine tw_iload_n X dX0_canTrade_65 rfl 1 rfl ?_
        obtain ⟨x8, hx8, hf⟩ := bnd hf
        refine klX0_48 X hx8 dX0_canTrade_66 ?_
        refine tw_icmp_gt (tgt := 74) X dX0_canTrade_67 rfl hf (fun q9 hf => ?_) (fun q9 hf => ?_)
        · clear q9
          refine tw_iconst (v := 0) X dX0_canTrade_74 rfl ?_
          exact tw_zret X hr (Or.inl rfl) (prj1 hf) (prj2 hf) dX0_canTrade_75
        · clear q9
          refine tw_iconst (v := 1) X dX0_canTrade_70 rfl ?_
          refine tw_goto (tgt := 75) X dX0_canTrade_71 rfl ?_
          exact tw_zret X hr (Or.inr rfl) (prj1 hf) (prj2 hf) dX0_canTrade_75
  · clear q12
    refine tw_iconst (v := 0) X dX0_canTrade_74 rfl ?_
    exact tw_zret X hr (Or.inl rfl) (prj1 hf) (prj2 hf) dX0_canTrade_75
noncomputable def kF_canExchange (g : St) (a1 : Int32) (a2 : Int32) : Option (Int32) :=
  (kF_meet g a1 a2).bind fun x1 =>
  if x1 = 0 then
    some (0 : Int32)
  else
    (kF_X3_isWhole g a1).bind fun x3 =>
    if x3 = 0 then
      (kF_X3_isWhole g a2).bind fun x5 =>
      if x5 = 0 then
        (rd (g 46) 6 a2).bind fun x7 =>
        (rd (g 47) 6 a1).bind fun x8 =>
        if x7 = x8 then
          some (1 : Int32)
        else
          (rd (g 46) 6 a1).bind fun x9 =>
          (rd (g 47) 6 a2).bind fun x10 =>
          if x9 = x10 then
            some (1 : Int32)
          else
            some (0 : Int32)
      else
        some (0 : Int32)
    else
      some (0 : Int32)
set_option maxHeartbeats 4000000 in
theorem kC_canExchange {l : Launch} {D : va_G} {A : Nat → Prop} {K : Nat → Nat} {δ : Nat → ClassId} {sr ρ : Rf} {dy : va_W} {g : St} {a1 : Int32} {a2 : Int32} {z : Int32} (hf : kF_canExchange g a1 a2 = some z) : Ct l yX0_canExchange cX0_canExchange 3 (some .boolean) 1 22 D vwCl (kT δ) A (kW K δ sr ρ dy) [.ref (K 0), .int a1, .int a2] g (QZ D vwCl A (kW K δ sr ρ dy) z g) := by
  unfold kF_canExchange at hf
  refine ct_intro (own := RX0) (lv0 := [(0, .ref (K 0)), (1, .int a1), (2, .int a2)]) (by decide) rfl (Nat.le_of_ble_eq_true rfl) rfl ?_
  intro p e s m args below meth c X hr
  refine tw_aload_n X dX0_canExchange_0 rfl 0 rfl ?_
  refine tw_iload_n X dX0_canExchange_1 rfl 1 rfl ?_
  refine tw_iload_n X dX0_canExchange_2 rfl 2 rfl ?_
  obtain ⟨x1, hx1, hf⟩ := bnd hf
  refine tw_callVz (As := [.int a1, .int a2]) (st := []) X (kC_meet hx1) kGX0_195 kI_X0_meet ⟨Nat.le_of_ble_eq_true rfl, Nat.le_of_ble_eq_true rfl⟩ ⟨Nat.zero_le _, Nat.zero_le _⟩ 0 rfl rfl rfl rfl (Nat.le_of_ble_eq_true rfl) dX0_canExchange_3 ?_
  intro hb2
  refine tw_if_eq (tgt := 31) X dX0_canExchange_6 rfl hf (fun q15 hf => ?_) (fun q15 hf => ?_)
  · clear q15
    refine tw_iconst (v := 0) X dX0_canExchange_31 rfl ?_
    exact tw_zret X hr (Or.inl rfl) (Option.some.inj hf) rfl dX0_canExchange_32
  · clear q15
    refine tw_aload_n X dX0_canExchange_9 rfl 0 rfl ?_
    refine kgX0_47_0 X  dX0_canExchange_10 ?_
    refine tw_iload_n X dX0_canExchange_13 rfl 1 rfl ?_
    obtain ⟨x3, hx3, hf⟩ := bnd hf
    refine tw_callVz (As := [.int a1]) (st := []) X (kC_X3_isWhole hx3) kGX0_192 kI_X3_isWhole ⟨Nat.le_of_ble_eq_true rfl, Nat.le_of_ble_eq_true rfl⟩ ⟨Nat.zero_le _, Nat.zero_le _⟩ 3 rfl rfl rfl rfl (Nat.le_of_ble_eq_true rfl) dX0_canExchange_14 ?_
    intro hb4
    refine tw_if_ne (tgt := 31) X dX0_canExchange_17 rfl hf (fun q14 hf => ?_) (fun q14 hf => ?_)
    · clear q14
      refine tw_aload_n X dX0_canExchange_20 rfl 0 rfl ?_
      refine kgX0_47_0 X  dX0_canExchange_21 ?_
      refine tw_iload_n X dX0_canExchange_24 rfl 2 rfl ?_
      obtain ⟨x5, hx5, hf⟩ := bnd hf
      refine tw_callVz (As := [.int a2]) (st := []) X (kC_X3_isWhole hx5) kGX0_192 kI_X3_isWhole ⟨Nat.le_of_ble_eq_true rfl, Nat.le_of_ble_eq_true rfl⟩ ⟨Nat.zero_le _, Nat.zero_le _⟩ 3 rfl rfl rfl rfl (Nat.le_of_ble_eq_true rfl) dX0_canExchange_25 ?_
      intro hb6
      refine tw_if_eq (tgt := 33) X dX0_canExchange_28 rfl hf (fun q13 hf => ?_) (fun q13 hf => ?_)
      · clear q13
        refine tw_aload_n X dX0_canExchange_33 rfl 0 rfl ?_
        refine kgX0_47_0 X  dX0_canExchange_34 ?_
        refine kgX0_174_3 X  dX0_canExchange_37 ?_
        refine tw_iload_n X dX0_canExchange_40 rfl 2 rfl ?_
        obtain ⟨x7, hx7, hf⟩ := bnd hf
        refine klX0_46 X hx7 dX0_canExchange_41 ?_
        refine tw_aload_n X dX0_canExchange_42 rfl 0 rfl ?_
        refine kgX0_47_0 X  dX0_canExchange_43 ?_
        refine kgX0_160_3 X  dX0_canExchange_46 ?_
        refine tw_iload_n X dX0_canExchange_49 rfl 1 rfl ?_
        obtain ⟨x8, hx8, hf⟩ := bnd hf
        refine klX0_47 X hx8 dX0_canExchange_50 ?_
        refine tw_icmp_eq (tgt := 75) X dX0_canExchange_51 rfl hf (fun q12 hf => ?_) (fun q12 hf => ?_)
        · clear q12
          refine tw_iconst (v := 1) X dX0_canExchange_75 rfl ?_
          refine tw_goto (tgt := 80) X dX0_canExchange_76 rfl ?_
          exact tw_zret X hr (Or.inr rfl) (Option.some.inj hf) rfl dX0_canExchange_80
        · clear q12
          refine tw_aload_n X dX0_canExchange_54 rfl 0 rfl ?_
          refine kgX0_47_0 X  dX0_canExchange_55 ?_
          refine kgX0_174_3 X  dX0_canExchange_58 ?_
          refine tw_iload_n X dX0_canExchange_61 rfl 1 rfl ?_
          obtain ⟨x9, hx9, hf⟩ := bnd hf
          refine klX0_46 X hx9 dX0_canExchange_62 ?_
          refine tw_aload_n X dX0_canExchange_63 rfl 0 rfl ?_
          refine kgX0_47_0 X  dX0_canExchange_64 ?_
          refine kgX0_160_3 X  dX0_canExchange_67 ?_
          refine tw_iload_n X dX0_canExchange_70 rfl 2 rfl ?_
          obtain ⟨x10, hx10, hf⟩ := bnd hf
          refine klX0_47 X hx10 dX0_canExchange_71 ?_
          refine tw_icmp_ne (tgt := 79) X dX0_canExchange_72 rfl hf (fun q11 hf => ?_) (fun q11 hf => ?_)
          · clear q11
            refine tw_iconst (v := 1) X dX0_canExchange_75 rfl ?_
            refine tw_goto (tgt := 80) X dX0_canExchange_76 rfl ?_
            exact tw_zret X hr (Or.inr rfl) (Option.some.inj hf) rfl dX0_canExchange_80
          · clear q11
            refine tw_iconst (v := 0) X dX0_canExchange_79 rfl ?_
            exact tw_zret X hr (Or.inl rfl) (Option.some.inj hf) rfl dX0_canExchange_80
      · clear q13
        refine tw_iconst (v := 0) X dX0_canExchange_31 rfl ?_
        exact tw_zret X hr (Or.inl rfl) (Option.some.inj hf) rfl dX0_canExchange_32
    · clear q14
      refine tw_iconst (v := 0) X dX0_canExchange_31 rfl ?_
      exact tw_zret X hr (Or.inl rfl) (Option.some.inj hf) rfl dX0_canExchange_32
noncomputable def kF_can (E : EE) (g : St) (a1 : Int32) : Option (Int32 × St) :=
  (dv a1 (10 : Int32)).bind fun x1 =>
  (rm a1 (10 : Int32)).bind fun x2 =>
  if x1 = (g 0 15) then
    some ((0 : Int32), g)
  else
    if x2 = (g 0 15) then
      some ((0 : Int32), g)
    else
      if x2 = (9 : Int32) then
        (kF_canTrade E g x1).bind (un2 fun y3a y3b =>
        some (y3a, y3b))
      else
        (kF_canExchange g x1 x2).bind fun x5 =>
        some (x5, g)
set_option maxHeartbeats 4000000 in
theorem kC_can {l : Launch} {D : va_G} {A : Nat → Prop} {K : Nat → Nat} {δ : Nat → ClassId} {sr ρ : Rf} {dy : va_W} {E : EE} (hE : EOK δ ρ dy E) {g : St} {a1 : Int32} {z : Int32 × St} (hf : kF_can E g a1 = some z) : Ct l yX0_can cX0_can 4 (some .boolean) 225 5187 D vwCl (kT δ) A (kW K δ sr ρ dy) [.ref (K 0), .int a1] g (QZ D vwCl A (kW K δ sr ρ dy) z.1 z.2) := by
  unfold kF_can at hf
  refine ct_intro (own := RX0) (lv0 := [(0, .ref (K 0)), (1, .int a1)]) (by decide) rfl (Nat.le_of_ble_eq_true rfl) rfl ?_
  intro p e s m args below meth c X hr
  refine tw_iload_n X dX0_can_0 rfl 1 rfl ?_
  refine tw_bipush (v := 10) X dX0_can_1 rfl ?_
  obtain ⟨x1, hx1, hf⟩ := bnd hf
  refine tw_idivV X dX0_can_3 hx1 ?_
  refine tw_istore_n (lv' := [(2, .int x1), (0, .ref (K 0)), (1, .int a1)]) X dX0_can_4 rfl (by decide) rfl ?_
  refine tw_iload_n X dX0_can_5 rfl 2 rfl ?_
  refine tw_bipush (v := 10) X dX0_can_6 rfl ?_
  obtain ⟨x2, hx2, hf⟩ := bnd hf
  refine tw_iremV X dX0_can_8 hx2 ?_
  refine tw_istore_n (lv' := [(3, .int x2), (2, .int x1), (0, .ref (K 0)), (1, .int a1)]) X dX0_can_9 rfl (by decide) rfl ?_
  refine tw_iload_n X dX0_can_10 rfl 1 rfl ?_
  refine tw_aload_n X dX0_can_11 rfl 2 rfl ?_
  refine kgX0_111_0 X  dX0_can_12 ?_
  refine tw_icmp_eq (tgt := 26) X dX0_can_15 rfl hf (fun q9 hf => ?_) (fun q9 hf => ?_)
  · clear q9
    refine tw_iconst (v := 0) X dX0_can_26 rfl ?_
    exact tw_zret X hr (Or.inl rfl) (prj1 hf) (prj2 hf) dX0_can_27
  · clear q9
    refine tw_iload_n X dX0_can_18 rfl 0 rfl ?_
    refine tw_aload_n X dX0_can_19 rfl 2 rfl ?_
    refine kgX0_111_0 X  dX0_can_20 ?_
    refine tw_icmp_ne (tgt := 28) X dX0_can_23 rfl hf (fun q8 hf => ?_) (fun q8 hf => ?_)
    · clear q8
      refine tw_iconst (v := 0) X dX0_can_26 rfl ?_
      exact tw_zret X hr (Or.inl rfl) (prj1 hf) (prj2 hf) dX0_can_27
    · clear q8
      refine tw_iload_n X dX0_can_28 rfl 0 rfl ?_
      refine tw_bipush (v := 9) X dX0_can_29 rfl ?_
      refine tw_icmp_ne (tgt := 42) X dX0_can_31 rfl hf (fun q7 hf => ?_) (fun q7 hf => ?_)
      · clear q7
        refine tw_aload_n X dX0_can_34 rfl 2 rfl ?_
        refine tw_iload_n X dX0_can_35 rfl 1 rfl ?_
        obtain ⟨⟨y3a, y3b⟩, hy3, hf⟩ := bnd hf
        dsimp only [un2] at hf
        refine tw_callVz (As := [.int x1]) (st := []) X (kC_canTrade hE hy3) kGX0_370 kI_X0_canTrade ⟨Nat.le_of_ble_eq_true rfl, Nat.le_of_ble_eq_true rfl⟩ ⟨Nat.zero_le _, Nat.zero_le _⟩ 0 rfl rfl rfl rfl (Nat.le_of_ble_eq_true rfl) dX0_can_36 ?_
        intro hb4
        refine tw_goto (tgt := 48) X dX0_can_39 rfl ?_
        exact tw_zret X hr hb4 (prj1 hf) (prj2 hf) dX0_can_48
      · clear q7
        refine tw_aload_n X dX0_can_42 rfl 2 rfl ?_
        refine tw_iload_n X dX0_can_43 rfl 1 rfl ?_
        refine tw_iload_n X dX0_can_44 rfl 0 rfl ?_
        obtain ⟨x5, hx5, hf⟩ := bnd hf
        refine tw_callVz (As := [.int x1, .int x2]) (st := []) X (kC_canExchange hx5) kGX0_373 kI_X0_canExchange ⟨Nat.le_of_ble_eq_true rfl, Nat.le_of_ble_eq_true rfl⟩ ⟨Nat.zero_le _, Nat.zero_le _⟩ 0 rfl rfl rfl rfl (Nat.le_of_ble_eq_true rfl) dX0_can_45 ?_
        intro hb6
        exact tw_zret X hr hb6 (prj1 hf) (prj2 hf) dX0_can_48
noncomputable def kF_isChange (g : St) (a1 : Int32) : Option (Int32) :=
  (dv a1 (10 : Int32)).bind fun x1 =>
  (rm a1 (10 : Int32)).bind fun x2 =>
  if a1 < 0 then
    some (0 : Int32)
  else
    (kF_isPerson g x1).bind fun x3 =>
    if x3 = 0 then
      some (0 : Int32)
    else
      if x2 = (9 : Int32) then
        some (1 : Int32)
      else
        (kF_isPerson g x2).bind fun x5 =>
        if x5 = 0 then
          some (0 : Int32)
        else
          if x2 ≤ x1 then
            some (0 : Int32)
          else
            some (1 : Int32)
set_option maxHeartbeats 4000000 in
theorem kC_isChange {l : Launch} {D : va_G} {A : Nat → Prop} {K : Nat → Nat} {δ : Nat → ClassId} {sr ρ : Rf} {dy : va_W} {g : St} {a1 : Int32} {z : Int32} (hf : kF_isChange g a1 = some z) : Ct l yX0_isChange cX0_isChange 4 (some .boolean) 2 43 D vwCl (kT δ) A (kW K δ sr ρ dy) [.ref (K 0), .int a1] g (QZ D vwCl A (kW K δ sr ρ dy) z g) := by
  unfold kF_isChange at hf
  refine ct_intro (own := RX0) (lv0 := [(0, .ref (K 0)), (1, .int a1)]) (by decide) rfl (Nat.le_of_ble_eq_true rfl) rfl ?_
  intro p e s m args below meth c X hr
  refine tw_iload_n X dX0_isChange_0 rfl 1 rfl ?_
  refine tw_bipush (v := 10) X dX0_isChange_1 rfl ?_
  obtain ⟨x1, hx1, hf⟩ := bnd hf
  refine tw_idivV X dX0_isChange_3 hx1 ?_
  refine tw_istore_n (lv' := [(2, .int x1), (0, .ref (K 0)), (1, .int a1)]) X dX0_isChange_4 rfl (by decide) rfl ?_
  refine tw_iload_n X dX0_isChange_5 rfl 2 rfl ?_
  refine tw_bipush (v := 10) X dX0_isChange_6 rfl ?_
  obtain ⟨x2, hx2, hf⟩ := bnd hf
  refine tw_iremV X dX0_isChange_8 hx2 ?_
  refine tw_istore_n (lv' := [(3, .int x2), (2, .int x1), (0, .ref (K 0)), (1, .int a1)]) X dX0_isChange_9 rfl (by decide) rfl ?_
  refine tw_iload_n X dX0_isChange_10 rfl 3 rfl ?_
  refine tw_if_lt (tgt := 45) X dX0_isChange_11 rfl hf (fun q11 hf => ?_) (fun q11 hf => ?_)
  · clear q11
    refine tw_iconst (v := 0) X dX0_isChange_45 rfl ?_
    exact tw_zret X hr (Or.inl rfl) (Option.some.inj hf) rfl dX0_isChange_46
  · clear q11
    refine tw_aload_n X dX0_isChange_14 rfl 2 rfl ?_
    refine tw_iload_n X dX0_isChange_15 rfl 1 rfl ?_
    obtain ⟨x3, hx3, hf⟩ := bnd hf
    refine tw_callVz (As := [.int x1]) (st := []) X (kC_isPerson hx3) kGX0_185 kI_X0_isPerson ⟨Nat.le_of_ble_eq_true rfl, Nat.le_of_ble_eq_true rfl⟩ ⟨Nat.zero_le _, Nat.zero_le _⟩ 0 rfl rfl rfl rfl (Nat.le_of_ble_eq_true rfl) dX0_isChange_16 ?_
    intro hb4
    refine tw_if_eq (tgt := 45) X dX0_isChange_19 rfl hf (fun q10 hf => ?_) (fun q10 hf => ?_)
    · clear q10
      refine tw_iconst (v := 0) X dX0_isChange_45 rfl ?_
      exact tw_zret X hr (Or.inl rfl) (Option.some.inj hf) rfl dX0_isChange_46
    · clear q10
      refine tw_iload_n X dX0_isChange_22 rfl 0 rfl ?_
      refine tw_bipush (v := 9) X dX0_isChange_23 rfl ?_
      refine tw_icmp_eq (tgt := 41) X dX0_isChange_25 rfl hf (fun q9 hf => ?_) (fun q9 hf => ?_)
      · clear q9
        refine tw_iconst (v := 1) X dX0_isChange_41 rfl ?_
        refine tw_goto (tgt := 46) X dX0_isChange_42 rfl ?_
        exact tw_zret X hr (Or.inr rfl) (Option.some.inj hf) rfl dX0_isChange_46
      · clear q9
        refine tw_aload_n X dX0_isChange_28 rfl 2 rfl ?_
        refine tw_iload_n X dX0_isChange_29 rfl 0 rfl ?_
        obtain ⟨x5, hx5, hf⟩ := bnd hf
        refine tw_callVz (As := [.int x2]) (st := []) X (kC_isPerson hx5) kGX0_185 kI_X0_isPerson ⟨Nat.le_of_ble_eq_true rfl, Nat.le_of_ble_eq_true rfl⟩ ⟨Nat.zero_le _, Nat.zero_le _⟩ 0 rfl rfl rfl rfl (Nat.le_of_ble_eq_true rfl) dX0_isChange_30 ?_
        intro hb6
        refine tw_if_eq (tgt := 45) X dX0_isChange_33 rfl hf (fun q8 hf => ?_) (fun q8 hf => ?_)
        · clear q8
          refine tw_iconst (v := 0) X dX0_isChange_45 rfl ?_
          exact tw_zret X hr (Or.inl rfl) (Option.some.inj hf) rfl dX0_isChange_46
        · clear q8
          refine tw_iload_n X dX0_isChange_36 rfl 1 rfl ?_
          refine tw_iload_n X dX0_isChange_37 rfl 0 rfl ?_
          refine tw_icmp_ge (tgt := 45) X dX0_isChange_38 rfl hf (fun q7 hf => ?_) (fun q7 hf => ?_)
          · clear q7
            refine tw_iconst (v := 0) X dX0_isChange_45 rfl ?_
            exact tw_zret X hr (Or.inl rfl) (Option.some.inj hf) rfl dX0_isChange_46
          · clear q7
            refine tw_iconst (v := 1) X dX0_isChange_41 rfl ?_
            refine tw_goto (tgt := 46) X dX0_isChange_42 rfl ?_
            exact tw_zret X hr (Or.inr rfl) (Option.some.inj hf) rfl dX0_isChange_46
noncomputable def kF_after (g : St) (a1 : Int32) : Option (Int32) :=
  Option.bind (α := Int32) (β := Int32)
    (iter (L := Int32) (T := Int32) (fun s4 => 
      if ((10 : Int32) * (g 40 0)) ≤ s4 then
        some (.inr s4)
      else
        (kF_isChange g s4).bind fun x7 =>
        if x7 = 0 then
          some (.inl (s4 + (1 : Int32)))
        else
          some (.inr s4)) (a1 + (1 : Int32)))
    (fun j1 => if ((10 : Int32) * (g 40 0)) ≤ j1 then
      some (99 : Int32)
    else
      some j1)
set_option maxHeartbeats 4000000 in
theorem kC_after {l : Launch} {D : va_G} {A : Nat → Prop} {K : Nat → Nat} {δ : Nat → ClassId} {sr ρ : Rf} {dy : va_W} {g : St} {a1 : Int32} {z : Int32} (hf : kF_after g a1 = some z) : Ct l yX0_after cX0_after 3 (some .int) 3 66 D vwCl (kT δ) A (kW K δ sr ρ dy) [.ref (K 0), .int a1] g (QI D vwCl A (kW K δ sr ρ dy) z g) := by
  unfold kF_after at hf
  refine ct_intro (own := RX0) (lv0 := [(0, .ref (K 0)), (1, .int a1)]) (by decide) rfl (Nat.le_of_ble_eq_true rfl) rfl ?_
  intro p e s m args below meth c X hr
  refine tw_iload_n X dX0_after_0 rfl 1 rfl ?_
  refine tw_iconst (v := 1) X dX0_after_1 rfl ?_
  refine tw_iadd X dX0_after_2 ?_
  refine tw_istore_n (lv' := [(2, .int (a1 + (1 : Int32))), (0, .ref (K 0)), (1, .int a1)]) X dX0_after_3 rfl (by decide) rfl ?_
  refine bj_walk (P := fun j1 : Int32 => TW p l e (rom 3 66) s m args below meth c (MQ below (QI D vwCl A (kW K δ sr ρ dy) z g) args s 0 0 A) D vwCl A (kW K δ sr ρ dy) 3 0 0 g 32 [(0, .ref (K 0)), (2, .int j1)] []) hf ?_ ?_
  · intro j1 hf
    refine tw_iload_n X dX0_after_32 rfl 1 rfl ?_
    refine tw_bipush (v := 10) X dX0_after_33 rfl ?_
    refine tw_aload_n X dX0_after_35 rfl 0 rfl ?_
    refine kgX0_47_0 X  dX0_after_36 ?_
    refine kgX0_147_3 X  dX0_after_39 ?_
    refine tw_imul X dX0_after_42 ?_
    refine tw_icmp_ge (tgt := 50) X dX0_after_43 rfl hf (fun q3 hf => ?_) (fun q3 hf => ?_)
    · clear q3
      refine tw_bipush (v := 99) X dX0_after_50 rfl ?_
      exact tw_iret X hr (Option.some.inj hf) rfl dX0_after_52
    · clear q3
      refine tw_iload_n X dX0_after_46 rfl 1 rfl ?_
      refine tw_goto (tgt := 52) X dX0_after_47 rfl ?_
      exact tw_iret X hr (Option.some.inj hf) rfl dX0_after_52
  · intro zz13 hf hk2
    refine tw_sub [1, 0] (lv' := [(0, .ref (K 0)), (2, .int (a1 + (1 : Int32)))]) rfl ?_
    refine it_walk (P := fun s4 : Int32 => TW p l e (rom 3 66) s m args below meth c (MQ below (QI D vwCl A (kW K δ sr ρ dy) z g) args s 0 0 A) D vwCl A (kW K δ sr ρ dy) 3 0 0 g 4 [(0, .ref (K 0)), (2, .int s4)] []) hf ?_
    intro s4 zz12 hf hl5
    refine tw_iload_n X dX0_after_4 rfl 1 rfl ?_
    refine tw_bipush (v := 10) X dX0_after_5 rfl ?_
    refine tw_aload_n X dX0_after_7 rfl 0 rfl ?_
    refine kgX0_47_0 X  dX0_after_8 ?_
    refine kgX0_147_3 X  dX0_after_11 ?_
    refine tw_imul X dX0_after_14 ?_
    refine tw_icmp_ge (tgt := 32) X dX0_after_15 rfl hf (fun q11 hf => ?_) (fun q11 hf => ?_)
    · clear q11
      have hf6 := leafR hf hl5
      have hL := hk2 _ hf6
      exact hL
    · clear q11
      refine tw_aload_n X dX0_after_18 rfl 0 rfl ?_
      refine tw_iload_n X dX0_after_19 rfl 1 rfl ?_
      obtain ⟨x7, hx7, hf⟩ := bnd hf
      refine tw_callVz (As := [.int s4]) (st := []) X (kC_isChange hx7) kGX0_376 kI_X0_isChange ⟨Nat.le_of_ble_eq_true rfl, Nat.le_of_ble_eq_true rfl⟩ ⟨Nat.zero_le _, Nat.zero_le _⟩ 0 rfl rfl rfl rfl (Nat.le_of_ble_eq_true rfl) dX0_after_20 ?_
      intro hb8
      refine tw_if_ne (tgt := 32) X dX0_after_23 rfl hf (fun q10 hf => ?_) (fun q10 hf => ?_)
      · clear q10
        refine tw_iinc (q := 1) (v := (s4 + (1 : Int32))) (lv' := [(2, .int (s4 + (1 : Int32))), (0, .ref (K 0))]) X dX0_after_26 rfl rfl (by decide) rfl ?_
        refine tw_goto (tgt := 4) X dX0_after_29 rfl ?_
        refine tw_sub [1, 0] (lv' := [(0, .ref (K 0)), (2, .int (s4 + (1 : Int32)))]) rfl ?_
        have hL := leafL hf hl5
        exact hL
      · clear q10
        have hf9 := leafR hf hl5
        have hL := hk2 _ hf9
        exact hL
noncomputable def kF_cans (E : EE) (g : St) (a1 : Int32) : Option (Int32 × St) :=
  if (-1 : Int32) ≤ a1 then
    if (60 : Int32) ≤ a1 then
      Option.bind (α := St × Int32) (β := Int32 × St)
        (iter (L := St × Int32) (T := St × Int32) (un2 fun s4a s4b => 
          if (99 : Int32) ≤ s4b then
            some (.inr (s4a, s4b))
          else
            (kF_can E s4a s4b).bind (un2 fun y7a y7b =>
            if y7a = 0 then
              (kF_after y7b s4b).bind fun x9 =>
              some (.inl (y7b, x9))
            else
              some (.inr (y7b, s4b)))) (g, (99 : Int32)))
        (un2 fun j1a j1b => if (99 : Int32) ≤ j1b then
          some ((-3 : Int32), j1a)
        else
          some (j1b, j1a))
    else
      (kF_after g a1).bind fun x15 =>
      Option.bind (α := St × Int32) (β := Int32 × St)
        (iter (L := St × Int32) (T := St × Int32) (un2 fun s19a s19b => 
          if (99 : Int32) ≤ s19b then
            some (.inr (s19a, s19b))
          else
            (kF_can E s19a s19b).bind (un2 fun y22a y22b =>
            if y22a = 0 then
              (kF_after y22b s19b).bind fun x24 =>
              some (.inl (y22b, x24))
            else
              some (.inr (y22b, s19b)))) (g, x15))
        (un2 fun j16a j16b => if (99 : Int32) ≤ j16b then
          some ((-3 : Int32), j16a)
        else
          some (j16b, j16a))
  else
    some ((-1 : Int32), g)
set_option maxHeartbeats 4000000 in
theorem kC_cans {l : Launch} {D : va_G} {A : Nat → Prop} {K : Nat → Nat} {δ : Nat → ClassId} {sr ρ : Rf} {dy : va_W} {E : EE} (hE : EOK δ ρ dy E) {g : St} {a1 : Int32} {z : Int32 × St} (hf : kF_cans E g a1 = some z) : Ct l yX0_cans cX0_cans 3 (some .int) 226 5210 D vwCl (kT δ) A (kW K δ sr ρ dy) [.ref (K 0), .int a1] g (QI D vwCl A (kW K δ sr ρ dy) z.1 z.2) := by
  unfold kF_cans at hf
  refine ct_intro (own := RX0) (lv0 := [(0, .ref (K 0)), (1, .int a1)]) (by decide) rfl (Nat.le_of_ble_eq_true rfl) rfl ?_
  intro p e s m args below meth c X hr
  refine tw_iload_n X dX0_cans_0 rfl 1 rfl ?_
  refine tw_iconst (v := -1) X dX0_cans_1 rfl ?_
  refine tw_icmp_ge (tgt := 7) X dX0_cans_2 rfl hf (fun q31 hf => ?_) (fun q31 hf => ?_)
  · clear q31
    refine tw_iload_n X dX0_cans_7 rfl 1 rfl ?_
    refine tw_bipush (v := 60) X dX0_cans_8 rfl ?_
    refine tw_icmp_ge (tgt := 21) X dX0_cans_10 rfl hf (fun q30 hf => ?_) (fun q30 hf => ?_)
    · clear q30
      refine tw_bipush (v := 99) X dX0_cans_21 rfl ?_
      refine tw_istore_n (lv' := [(2, .int (99 : Int32)), (0, .ref (K 0)), (1, .int a1)]) X dX0_cans_23 rfl (by decide) rfl ?_
      refine bj_walk (P := un2 fun j1a j1b => TW p l e (rom 226 5210) s m args below meth c (MQ below (QI D vwCl A (kW K δ sr ρ dy) z.1 z.2) args s 0 0 A) D vwCl A (kW K δ sr ρ dy) 3 0 0 j1a 47 [(2, .int j1b)] []) hf ?_ ?_
      · rintro ⟨j1a, j1b⟩ hf
        dsimp only [un2] at hf ⊢
        refine tw_iload_n X dX0_cans_47 rfl 0 rfl ?_
        refine tw_bipush (v := 99) X dX0_cans_48 rfl ?_
        refine tw_icmp_ge (tgt := 57) X dX0_cans_50 rfl hf (fun q3 hf => ?_) (fun q3 hf => ?_)
        · clear q3
          refine tw_bipush (v := -3) X dX0_cans_57 rfl ?_
          exact tw_iret X hr (prj1 hf) (prj2 hf) dX0_cans_59
        · clear q3
          refine tw_iload_n X dX0_cans_53 rfl 0 rfl ?_
          refine tw_goto (tgt := 59) X dX0_cans_54 rfl ?_
          exact tw_iret X hr (prj1 hf) (prj2 hf) dX0_cans_59
      · intro zz14 hf hk2
        refine tw_sub [1, 0] (lv' := [(0, .ref (K 0)), (2, .int (99 : Int32))]) rfl ?_
        refine it_walk (P := un2 fun s4a s4b => TW p l e (rom 226 5210) s m args below meth c (MQ below (QI D vwCl A (kW K δ sr ρ dy) z.1 z.2) args s 0 0 A) D vwCl A (kW K δ sr ρ dy) 3 0 0 s4a 24 [(0, .ref (K 0)), (2, .int s4b)] []) hf ?_
        rintro ⟨s4a, s4b⟩ zz13 hf hl5
        dsimp only [un2] at hf ⊢
        refine tw_iload_n X dX0_cans_24 rfl 1 rfl ?_
        refine tw_bipush (v := 99) X dX0_cans_25 rfl ?_
        refine tw_icmp_ge (tgt := 47) X dX0_cans_27 rfl hf (fun q12 hf => ?_) (fun q12 hf => ?_)
        · clear q12
          have hf6 := leafR hf hl5
          refine tw_sub [1] (lv' := [(2, .int s4b)]) rfl ?_
          have hL := hk2 _ hf6
          exact hL
        · clear q12
          refine tw_aload_n X dX0_cans_30 rfl 0 rfl ?_
          refine tw_iload_n X dX0_cans_31 rfl 1 rfl ?_
          obtain ⟨⟨y7a, y7b⟩, hy7, hf⟩ := bnd hf
          dsimp only [un2] at hf
          refine tw_callVz (As := [.int s4b]) (st := []) X (kC_can hE hy7) kGX0_389 kI_X0_can ⟨Nat.le_of_ble_eq_true rfl, Nat.le_of_ble_eq_true rfl⟩ ⟨Nat.zero_le _, Nat.zero_le _⟩ 0 rfl rfl rfl rfl (Nat.le_of_ble_eq_true rfl) dX0_cans_32 ?_
          intro hb8
          refine tw_if_ne (tgt := 47) X dX0_cans_35 rfl hf (fun q11 hf => ?_) (fun q11 hf => ?_)
          · clear q11
            refine tw_aload_n X dX0_cans_38 rfl 0 rfl ?_
            refine tw_iload_n X dX0_cans_39 rfl 1 rfl ?_
            obtain ⟨x9, hx9, hf⟩ := bnd hf
            refine tw_callVi (As := [.int s4b]) (st := []) X (kC_after hx9) kGX0_386 kI_X0_after ⟨Nat.le_of_ble_eq_true rfl, Nat.le_of_ble_eq_true rfl⟩ ⟨Nat.zero_le _, Nat.zero_le _⟩ 0 rfl rfl rfl rfl (Nat.le_of_ble_eq_true rfl) dX0_cans_40 ?_
            refine tw_istore_n (lv' := [(2, .int x9), (0, .ref (K 0))]) X dX0_cans_43 rfl (by decide) rfl ?_
            refine tw_goto (tgt := 24) X dX0_cans_44 rfl ?_
            refine tw_sub [1, 0] (lv' := [(0, .ref (K 0)), (2, .int x9)]) rfl ?_
            have hL := leafL hf hl5
            exact hL
          · clear q11
            have hf10 := leafR hf hl5
            refine tw_sub [1] (lv' := [(2, .int s4b)]) rfl ?_
            have hL := hk2 _ hf10
            exact hL
    · clear q30
      refine tw_aload_n X dX0_cans_13 rfl 0 rfl ?_
      refine tw_iload_n X dX0_cans_14 rfl 1 rfl ?_
      obtain ⟨x15, hx15, hf⟩ := bnd hf
      refine tw_callVi (As := [.int a1]) (st := []) X (kC_after hx15) kGX0_386 kI_X0_after ⟨Nat.le_of_ble_eq_true rfl, Nat.le_of_ble_eq_true rfl⟩ ⟨Nat.zero_le _, Nat.zero_le _⟩ 0 rfl rfl rfl rfl (Nat.le_of_ble_eq_true rfl) dX0_cans_15 ?_
      refine tw_goto (tgt := 23) X dX0_cans_18 rfl ?_
      refine tw_istore_n (lv' := [(2, .int x15), (0, .ref (K 0)), (1, .int a1)]) X dX0_cans_23 rfl (by decide) rfl ?_
      refine bj_walk (P := un2 fun j16a j16b => TW p l e (rom 226 5210) s m args below meth c (MQ below (QI D vwCl A (kW K δ sr ρ dy) z.1 z.2) args s 0 0 A) D vwCl A (kW K δ sr ρ dy) 3 0 0 j16a 47 [(2, .int j16b)] []) hf ?_ ?_
      · rintro ⟨j16a, j16b⟩ hf
        dsimp only [un2] at hf ⊢
        refine tw_iload_n X dX0_cans_47 rfl 0 rfl ?_
        refine tw_bipush (v := 99) X dX0_cans_48 rfl ?_
        refine tw_icmp_ge (tgt := 57) X dX0_cans_50 rfl hf (fun q18 hf => ?_) (fun q18 hf => ?_)
        · clear q18
          refine tw_bipush (v := -3) X dX0_cans_57 rfl ?_
          exact tw_iret X hr (prj1 hf) (prj2 hf) dX0_cans_59
        · clear q18
          refine tw_iload_n X dX0_cans_53 rfl 0 rfl ?_
          refine tw_goto (tgt := 59) X dX0_cans_54 rfl ?_
          exact tw_iret X hr (prj1 hf) (prj2 hf) dX0_cans_59
      · intro zz29 hf hk17
        refine tw_sub [1, 0] (lv' := [(0, .ref (K 0)), (2, .int x15)]) rfl ?_
        refine it_walk (P := un2 fun s19a s19b => TW p l e (rom 226 5210) s m args below meth c (MQ below (QI D vwCl A (kW K δ sr ρ dy) z.1 z.2) args s 0 0 A) D vwCl A (kW K δ sr ρ dy) 3 0 0 s19a 24 [(0, .ref (K 0)), (2, .int s19b)] []) hf ?_
        rintro ⟨s19a, s19b⟩ zz28 hf hl20
        dsimp only [un2] at hf ⊢
        refine tw_iload_n X dX0_cans_24 rfl 1 rfl ?_
        refine tw_bipush (v := 99) X dX0_cans_25 rfl ?_
        refine tw_icmp_ge (tgt := 47) X dX0_cans_27 rfl hf (fun q27 hf => ?_) (fun q27 hf => ?_)
        · clear q27
          have hf21 := leafR hf hl20
          refine tw_sub [1] (lv' := [(2, .int s19b)]) rfl ?_
          have hL := hk17 _ hf21
          exact hL
        · clear q27
          refine tw_aload_n X dX0_cans_30 rfl 0 rfl ?_
          refine tw_iload_n X dX0_cans_31 rfl 1 rfl ?_
          obtain ⟨⟨y22a, y22b⟩, hy22, hf⟩ := bnd hf
          dsimp only [un2] at hf
          refine tw_callVz (As := [.int s19b]) (st := []) X (kC_can hE hy22) kGX0_389 kI_X0_can ⟨Nat.le_of_ble_eq_true rfl, Nat.le_of_ble_eq_true rfl⟩ ⟨Nat.zero_le _, Nat.zero_le _⟩ 0 rfl rfl rfl rfl (Nat.le_of_ble_eq_true rfl) dX0_cans_32 ?_
          intro hb23
          refine tw_if_ne (tgt := 47) X dX0_cans_35 rfl hf (fun q26 hf => ?_) (fun q26 hf => ?_)
          · clear q26
            refine tw_aload_n X dX0_cans_38 rfl 0 rfl ?_
            refine tw_iload_n X dX0_cans_39 rfl 1 rfl ?_
            obtain ⟨x24, hx24, hf⟩ := bnd hf
            refine tw_callVi (As := [.int s19b]) (st := []) X (kC_after hx24) kGX0_386 kI_X0_after ⟨Nat.le_of_ble_eq_true rfl, Nat.le_of_ble_eq_true rfl⟩ ⟨Nat.zero_le _, Nat.zero_le _⟩ 0 rfl rfl rfl rfl (Nat.le_of_ble_eq_true rfl) dX0_cans_40 ?_
            refine tw_istore_n (lv' := [(2, .int x24), (0, .ref (K 0))]) X dX0_cans_43 rfl (by decide) rfl ?_
            refine tw_goto (tgt := 24) X dX0_cans_44 rfl ?_
            refine tw_sub [1, 0] (lv' := [(0, .ref (K 0)), (2, .int x24)]) rfl ?_
            have hL := leafL hf hl20
            exact hL
          · clear q26
            have hf25 := leafR hf hl20
            refine tw_sub [1] (lv' := [(2, .int s19b)]) rfl ?_
            have hL := hk17 _ hf25
            exact hL
  · clear q31
    refine tw_iconst (v := -1) X dX0_cans_5 rfl ?_
    exact tw_iret X hr (prj1 hf) (prj2 hf) dX0_cans_6
noncomputable def kF_X3_trades (g : St) (a1 : Int32) (a2 : Int32) (a3 : Int32) : Option (St) :=
  (rd (g 46) 6 a1).bind fun x1 =>
  (rd (g 51) 8 x1).bind fun x2 =>
  (wr g 51 8 x1 (x2 + (1 : Int32))).bind fun g3 =>
  (rd (g3 51) 8 a2).bind fun x4 =>
  (wr g3 51 8 a2 (x4 - (1 : Int32))).bind fun g5 =>
  (wr g5 46 6 a1 a2).bind fun g6 =>
  (rd (g6 48) 6 a1).bind fun x7 =>
  (wr g6 48 6 a1 (x7 - a3)).bind fun g8 =>
  some g8
set_option maxHeartbeats 4000000 in
theorem kC_X3_trades {l : Launch} {D : va_G} {A : Nat → Prop} {K : Nat → Nat} {δ : Nat → ClassId} {sr ρ : Rf} {dy : va_W} {g : St} {a1 : Int32} {a2 : Int32} {a3 : Int32} {z : St} (hf : kF_X3_trades g a1 a2 a3 = some z) : Ct l yX3_trades cX3_trades 4 none 0 0 D vwCl (kT δ) A (kW K δ sr ρ dy) [.ref (K 3), .int a1, .int a2, .int a3] g (QV D vwCl A (kW K δ sr ρ dy) z) := by
  unfold kF_X3_trades at hf
  refine ct_intro (own := RX3) (lv0 := [(0, .ref (K 3)), (1, .int a1), (2, .int a2), (3, .int a3)]) (by decide) rfl (Nat.le_of_ble_eq_true rfl) rfl ?_
  intro p e s m args below meth c X hr
  refine tw_aload_n X dX3_trades_0 rfl 0 rfl ?_
  refine kgX3_34_3 X  dX3_trades_1 ?_
  refine tw_aload_n X dX3_trades_4 rfl 0 rfl ?_
  refine kgX3_19_3 X  dX3_trades_5 ?_
  refine tw_iload_n X dX3_trades_8 rfl 1 rfl ?_
  obtain ⟨x1, hx1, hf⟩ := bnd hf
  refine klX3_46 X hx1 dX3_trades_9 ?_
  refine tw_dup2_11 X dX3_trades_10 rfl rfl ?_
  obtain ⟨x2, hx2, hf⟩ := bnd hf
  refine klX3_51 X hx2 dX3_trades_11 ?_
  refine tw_iconst (v := 1) X dX3_trades_12 rfl ?_
  refine tw_iadd X dX3_trades_13 ?_
  obtain ⟨g3, hg3, hf⟩ := bnd hf
  refine ksX3_51 X hg3 dX3_trades_14 ?_
  refine tw_aload_n X dX3_trades_15 rfl 0 rfl ?_
  refine kgX3_34_3 X  dX3_trades_16 ?_
  refine tw_iload_n X dX3_trades_19 rfl 2 rfl ?_
  refine tw_dup2_11 X dX3_trades_20 rfl rfl ?_
  obtain ⟨x4, hx4, hf⟩ := bnd hf
  refine klX3_51 X hx4 dX3_trades_21 ?_
  refine tw_iconst (v := 1) X dX3_trades_22 rfl ?_
  refine tw_isub X dX3_trades_23 ?_
  obtain ⟨g5, hg5, hf⟩ := bnd hf
  refine ksX3_51 X hg5 dX3_trades_24 ?_
  refine tw_aload_n X dX3_trades_25 rfl 0 rfl ?_
  refine kgX3_19_3 X  dX3_trades_26 ?_
  refine tw_iload_n X dX3_trades_29 rfl 1 rfl ?_
  refine tw_iload_n X dX3_trades_30 rfl 2 rfl ?_
  obtain ⟨g6, hg6, hf⟩ := bnd hf
  refine ksX3_46 X hg6 dX3_trades_31 ?_
  refine tw_aload_n X dX3_trades_32 rfl 0 rfl ?_
  refine kgX3_25_3 X  dX3_trades_33 ?_
  refine tw_iload_n X dX3_trades_36 rfl 1 rfl ?_
  refine tw_dup2_11 X dX3_trades_37 rfl rfl ?_
  obtain ⟨x7, hx7, hf⟩ := bnd hf
  refine klX3_48 X hx7 dX3_trades_38 ?_
  refine tw_iload_n X dX3_trades_39 rfl 3 rfl ?_
  refine tw_isub X dX3_trades_40 ?_
  obtain ⟨g8, hg8, hf⟩ := bnd hf
  refine ksX3_48 X hg8 dX3_trades_41 ?_
  exact tw_vret X hr (Option.some.inj hf) dX3_trades_42
noncomputable def kF_X3_exchange (g : St) (a1 : Int32) (a2 : Int32) : Option (St) :=
  (rd (g 46) 6 a1).bind fun x1 =>
  (rd (g 46) 6 a2).bind fun x2 =>
  (wr g 46 6 a1 x2).bind fun g3 =>
  (wr g3 46 6 a2 x1).bind fun g4 =>
  some g4
set_option maxHeartbeats 4000000 in
theorem kC_X3_exchange {l : Launch} {D : va_G} {A : Nat → Prop} {K : Nat → Nat} {δ : Nat → ClassId} {sr ρ : Rf} {dy : va_W} {g : St} {a1 : Int32} {a2 : Int32} {z : St} (hf : kF_X3_exchange g a1 a2 = some z) : Ct l yX3_exchange cX3_exchange 4 none 0 0 D vwCl (kT δ) A (kW K δ sr ρ dy) [.ref (K 3), .int a1, .int a2] g (QV D vwCl A (kW K δ sr ρ dy) z) := by
  unfold kF_X3_exchange at hf
  refine ct_intro (own := RX3) (lv0 := [(0, .ref (K 3)), (1, .int a1), (2, .int a2)]) (by decide) rfl (Nat.le_of_ble_eq_true rfl) rfl ?_
  intro p e s m args below meth c X hr
  refine tw_aload_n X dX3_exchange_0 rfl 0 rfl ?_
  refine kgX3_19_3 X  dX3_exchange_1 ?_
  refine tw_iload_n X dX3_exchange_4 rfl 1 rfl ?_
  obtain ⟨x1, hx1, hf⟩ := bnd hf
  refine klX3_46 X hx1 dX3_exchange_5 ?_
  refine tw_istore_n (lv' := [(3, .int x1), (0, .ref (K 3)), (1, .int a1), (2, .int a2)]) X dX3_exchange_6 rfl (by decide) rfl ?_
  refine tw_aload_n X dX3_exchange_7 rfl 1 rfl ?_
  refine kgX3_19_3 X  dX3_exchange_8 ?_
  refine tw_iload_n X dX3_exchange_11 rfl 2 rfl ?_
  refine tw_aload_n X dX3_exchange_12 rfl 1 rfl ?_
  refine kgX3_19_3 X  dX3_exchange_13 ?_
  refine tw_iload_n X dX3_exchange_16 rfl 3 rfl ?_
  obtain ⟨x2, hx2, hf⟩ := bnd hf
  refine klX3_46 X hx2 dX3_exchange_17 ?_
  obtain ⟨g3, hg3, hf⟩ := bnd hf
  refine ksX3_46 X hg3 dX3_exchange_18 ?_
  refine tw_aload_n X dX3_exchange_19 rfl 1 rfl ?_
  refine kgX3_19_3 X  dX3_exchange_20 ?_
  refine tw_iload_n X dX3_exchange_23 rfl 3 rfl ?_
  refine tw_iload_n X dX3_exchange_24 rfl 0 rfl ?_
  obtain ⟨g4, hg4, hf⟩ := bnd hf
  refine ksX3_46 X hg4 dX3_exchange_25 ?_
  exact tw_vret X hr (Option.some.inj hf) dX3_exchange_26
noncomputable def kF_carry (E : EE) (g : St) (a1 : Int32) : Option (Int32 × St) :=
  (dv a1 (10 : Int32)).bind fun x1 =>
  (rm a1 (10 : Int32)).bind fun x2 =>
  if x2 = (9 : Int32) then
    (kF_priceOf E g x1).bind (un2 fun y3a y3b =>
    (rd (y3b 47) 6 x1).bind fun x4 =>
    (kF_X3_trades y3b x1 x4 y3a).bind fun g5 =>
    some (y3a, g5))
  else
    (kF_X3_exchange g x1 x2).bind fun g6 =>
    some ((0 : Int32), g6)
set_option maxHeartbeats 4000000 in
theorem kC_carry {l : Launch} {D : va_G} {A : Nat → Prop} {K : Nat → Nat} {δ : Nat → ClassId} {sr ρ : Rf} {dy : va_W} {E : EE} (hE : EOK δ ρ dy E) {g : St} {a1 : Int32} {z : Int32 × St} (hf : kF_carry E g a1 = some z) : Ct l yX0_carry cX0_carry 5 (some .int) 224 5166 D vwCl (kT δ) A (kW K δ sr ρ dy) [.ref (K 0), .int a1] g (QI D vwCl A (kW K δ sr ρ dy) z.1 z.2) := by
  unfold kF_carry at hf
  refine ct_intro (own := RX0) (lv0 := [(0, .ref (K 0)), (1, .int a1)]) (by decide) rfl (Nat.le_of_ble_eq_true rfl) rfl ?_
  intro p e s m args below meth c X hr
  refine tw_iload_n X dX0_carry_0 rfl 1 rfl ?_
  refine tw_bipush (v := 10) X dX0_carry_1 rfl ?_
  obtain ⟨x1, hx1, hf⟩ := bnd hf
  refine tw_idivV X dX0_carry_3 hx1 ?_
  refine tw_istore_n (lv' := [(2, .int x1), (0, .ref (K 0)), (1, .int a1)]) X dX0_carry_4 rfl (by decide) rfl ?_
  refine tw_iload_n X dX0_carry_5 rfl 2 rfl ?_
  refine tw_bipush (v := 10) X dX0_carry_6 rfl ?_
  obtain ⟨x2, hx2, hf⟩ := bnd hf
  refine tw_iremV X dX0_carry_8 hx2 ?_
  refine tw_istore_n (lv' := [(3, .int x2), (2, .int x1), (0, .ref (K 0)), (1, .int a1)]) X dX0_carry_9 rfl (by decide) rfl ?_
  refine tw_iload_n X dX0_carry_10 rfl 0 rfl ?_
  refine tw_bipush (v := 9) X dX0_carry_11 rfl ?_
  refine tw_icmp_ne (tgt := 45) X dX0_carry_13 rfl hf (fun q7 hf => ?_) (fun q7 hf => ?_)
  · clear q7
    refine tw_aload_n X dX0_carry_16 rfl 2 rfl ?_
    refine tw_iload_n X dX0_carry_17 rfl 1 rfl ?_
    obtain ⟨⟨y3a, y3b⟩, hy3, hf⟩ := bnd hf
    dsimp only [un2] at hf
    refine tw_callVi (As := [.int x1]) (st := []) X (kC_priceOf hE hy3) kGX0_188 kI_X0_priceOf ⟨Nat.le_of_ble_eq_true rfl, Nat.le_of_ble_eq_true rfl⟩ ⟨Nat.zero_le _, Nat.zero_le _⟩ 0 rfl rfl rfl rfl (Nat.le_of_ble_eq_true rfl) dX0_carry_18 ?_
    refine tw_istore (lv' := [(4, .int y3a), (3, .int x2), (2, .int x1), (0, .ref (K 0)), (1, .int a1)]) X dX0_carry_21 (by decide) rfl ?_
    refine tw_aload_n X dX0_carry_23 rfl 3 rfl ?_
    refine kgX0_47_0 X  dX0_carry_24 ?_
    refine tw_iload_n X dX0_carry_27 rfl 2 rfl ?_
    refine tw_aload_n X dX0_carry_28 rfl 3 rfl ?_
    refine kgX0_47_0 X  dX0_carry_29 ?_
    refine kgX0_160_3 X  dX0_carry_32 ?_
    refine tw_iload_n X dX0_carry_35 rfl 2 rfl ?_
    obtain ⟨x4, hx4, hf⟩ := bnd hf
    refine klX0_47 X hx4 dX0_carry_36 ?_
    refine tw_iload X dX0_carry_37 0 rfl ?_
    obtain ⟨g5, hg5, hf⟩ := bnd hf
    refine tw_callVv (As := [.int x1, .int x4, .int y3a]) (st := []) X (kC_X3_trades hg5) kGX0_379 kI_X3_trades ⟨Nat.le_of_ble_eq_true rfl, Nat.le_of_ble_eq_true rfl⟩ ⟨Nat.zero_le _, Nat.zero_le _⟩ 3 rfl rfl rfl rfl (Nat.le_of_ble_eq_true rfl) dX0_carry_39 ?_
    refine tw_iload X dX0_carry_42 0 rfl ?_
    exact tw_iret X hr (prj1 hf) (prj2 hf) dX0_carry_44
  · clear q7
    refine tw_aload_n X dX0_carry_45 rfl 2 rfl ?_
    refine kgX0_47_0 X  dX0_carry_46 ?_
    refine tw_iload_n X dX0_carry_49 rfl 1 rfl ?_
    refine tw_iload_n X dX0_carry_50 rfl 0 rfl ?_
    obtain ⟨g6, hg6, hf⟩ := bnd hf
    refine tw_callVv (As := [.int x1, .int x2]) (st := []) X (kC_X3_exchange hg6) kGX0_383 kI_X3_exchange ⟨Nat.le_of_ble_eq_true rfl, Nat.le_of_ble_eq_true rfl⟩ ⟨Nat.zero_le _, Nat.zero_le _⟩ 3 rfl rfl rfl rfl (Nat.le_of_ble_eq_true rfl) dX0_carry_51 ?_
    refine tw_iconst (v := 0) X dX0_carry_54 rfl ?_
    exact tw_iret X hr (prj1 hf) (prj2 hf) dX0_carry_55
noncomputable def kF_X3_enters (g : St) (a1 : Int32) (a2 : Int32) (a3 : Int32) : Option (St) :=
  Option.bind (α := St) (β := St)
    (if (g 40 3) = (12 : Int32) then
      (cpy g 55 12 55 12 (1 : Int32) (0 : Int32) (11 : Int32)).bind fun g7 =>
      (cpy g7 56 12 56 12 (1 : Int32) (0 : Int32) (11 : Int32)).bind fun g8 =>
      (cpy g8 57 12 57 12 (1 : Int32) (0 : Int32) (11 : Int32)).bind fun g9 =>
      (pf g9 40 3 ((g9 40 3) - (1 : Int32))).bind fun g10 =>
      some g10
    else
      some g)
    (fun j1 => (wr j1 55 12 (j1 40 3) a1).bind fun g3 =>
    (wr g3 56 12 (g3 40 3) a2).bind fun g4 =>
    (wr g4 57 12 (g4 40 3) a3).bind fun g5 =>
    (pf g5 40 3 ((g5 40 3) + (1 : Int32))).bind fun g6 =>
    some g6)
set_option maxHeartbeats 4000000 in
theorem kC_X3_enters {l : Launch} {D : va_G} {A : Nat → Prop} {K : Nat → Nat} {δ : Nat → ClassId} {sr ρ : Rf} {dy : va_W} {g : St} {a1 : Int32} {a2 : Int32} {a3 : Int32} {z : St} (hf : kF_X3_enters g a1 a2 a3 = some z) : Ct l yX3_enters cX3_enters 4 none 1 40 D vwCl (kT δ) A (kW K δ sr ρ dy) [.ref (K 3), .int a1, .int a2, .int a3] g (QV D vwCl A (kW K δ sr ρ dy) z) := by
  unfold kF_X3_enters at hf
  refine ct_intro (own := RX3) (lv0 := [(0, .ref (K 3)), (1, .int a1), (2, .int a2), (3, .int a3)]) (by decide) rfl (Nat.le_of_ble_eq_true rfl) rfl ?_
  intro p e s m args below meth c X hr
  refine tw_aload_n X dX3_enters_0 rfl 0 rfl ?_
  refine kgX3_70_3 X  dX3_enters_1 ?_
  refine tw_bipush (v := 12) X dX3_enters_4 rfl ?_
  refine bj_walk (P := fun j1 : St => TW p l e (rom 1 40) s m args below meth c (MQ below (QV D vwCl A (kW K δ sr ρ dy) z) args s 0 0 A) D vwCl A (kW K δ sr ρ dy) 4 0 0 j1 64 [(0, .ref (K 3)), (1, .int a1), (2, .int a2), (3, .int a3)] []) hf ?_ ?_
  · intro j1 hf
    refine tw_aload_n X dX3_enters_64 rfl 0 rfl ?_
    refine kgX3_46_3 X  dX3_enters_65 ?_
    refine tw_aload_n X dX3_enters_68 rfl 0 rfl ?_
    refine kgX3_70_3 X  dX3_enters_69 ?_
    refine tw_iload_n X dX3_enters_72 rfl 1 rfl ?_
    obtain ⟨g3, hg3, hf⟩ := bnd hf
    refine ksX3_55 X hg3 dX3_enters_73 ?_
    refine tw_aload_n X dX3_enters_74 rfl 0 rfl ?_
    refine kgX3_49_3 X  dX3_enters_75 ?_
    refine tw_aload_n X dX3_enters_78 rfl 0 rfl ?_
    refine kgX3_70_3 X  dX3_enters_79 ?_
    refine tw_iload_n X dX3_enters_82 rfl 2 rfl ?_
    obtain ⟨g4, hg4, hf⟩ := bnd hf
    refine ksX3_56 X hg4 dX3_enters_83 ?_
    refine tw_aload_n X dX3_enters_84 rfl 0 rfl ?_
    refine kgX3_52_3 X  dX3_enters_85 ?_
    refine tw_aload_n X dX3_enters_88 rfl 0 rfl ?_
    refine kgX3_70_3 X  dX3_enters_89 ?_
    refine tw_iload_n X dX3_enters_92 rfl 3 rfl ?_
    obtain ⟨g5, hg5, hf⟩ := bnd hf
    refine ksX3_57 X hg5 dX3_enters_93 ?_
    refine tw_aload_n X dX3_enters_94 rfl 0 rfl ?_
    refine tw_dup X dX3_enters_95 rfl ?_
    refine kgX3_70_3 X  dX3_enters_96 ?_
    refine tw_iconst (v := 1) X dX3_enters_99 rfl ?_
    refine tw_iadd X dX3_enters_100 ?_
    obtain ⟨g6, hg6, hf⟩ := bnd hf
    refine kpX3_70_3 X hg6 dX3_enters_101 ?_
    exact tw_vret X hr (Option.some.inj hf) dX3_enters_104
  · intro zz12 hf hk2
    refine tw_icmp_ne (tgt := 64) X dX3_enters_6 rfl hf (fun q11 hf => ?_) (fun q11 hf => ?_)
    · clear q11
      refine tw_aload_n X dX3_enters_9 rfl 0 rfl ?_
      refine kgX3_46_3 X  dX3_enters_10 ?_
      refine tw_iconst (v := 1) X dX3_enters_13 rfl ?_
      refine tw_aload_n X dX3_enters_14 rfl 0 rfl ?_
      refine kgX3_46_3 X  dX3_enters_15 ?_
      refine tw_iconst (v := 0) X dX3_enters_18 rfl ?_
      refine tw_bipush (v := 11) X dX3_enters_19 rfl ?_
      obtain ⟨g7, hg7, hf⟩ := bnd hf
      refine kcX3_55_55 X hg7 ⟨Nat.le_of_ble_eq_true rfl, Nat.le_of_ble_eq_true rfl⟩ (Nat.le_of_ble_eq_true rfl) dX3_enters_21 ?_
      refine tw_aload_n X dX3_enters_24 rfl 0 rfl ?_
      refine kgX3_49_3 X  dX3_enters_25 ?_
      refine tw_iconst (v := 1) X dX3_enters_28 rfl ?_
      refine tw_aload_n X dX3_enters_29 rfl 0 rfl ?_
      refine kgX3_49_3 X  dX3_enters_30 ?_
      refine tw_iconst (v := 0) X dX3_enters_33 rfl ?_
      refine tw_bipush (v := 11) X dX3_enters_34 rfl ?_
      obtain ⟨g8, hg8, hf⟩ := bnd hf
      refine kcX3_56_56 X hg8 ⟨Nat.le_of_ble_eq_true rfl, Nat.le_of_ble_eq_true rfl⟩ (Nat.le_of_ble_eq_true rfl) dX3_enters_36 ?_
      refine tw_aload_n X dX3_enters_39 rfl 0 rfl ?_
      refine kgX3_52_3 X  dX3_enters_40 ?_
      refine tw_iconst (v := 1) X dX3_enters_43 rfl ?_
      refine tw_aload_n X dX3_enters_44 rfl 0 rfl ?_
      refine kgX3_52_3 X  dX3_enters_45 ?_
      refine tw_iconst (v := 0) X dX3_enters_48 rfl ?_
      refine tw_bipush (v := 11) X dX3_enters_49 rfl ?_
      obtain ⟨g9, hg9, hf⟩ := bnd hf
      refine kcX3_57_57 X hg9 ⟨Nat.le_of_ble_eq_true rfl, Nat.le_of_ble_eq_true rfl⟩ (Nat.le_of_ble_eq_true rfl) dX3_enters_51 ?_
      refine tw_aload_n X dX3_enters_54 rfl 0 rfl ?_
      refine tw_dup X dX3_enters_55 rfl ?_
      refine kgX3_70_3 X  dX3_enters_56 ?_
      refine tw_iconst (v := 1) X dX3_enters_59 rfl ?_
      refine tw_isub X dX3_enters_60 ?_
      obtain ⟨g10, hg10, hf⟩ := bnd hf
      refine kpX3_70_3 X hg10 dX3_enters_61 ?_
      have hL := hk2 _ hf
      exact hL
    · clear q11
      have hL := hk2 _ hf
      exact hL
noncomputable def kF_makes (E : EE) (g : St) (a1 : Int32) : Option (Int32 × St) :=
  (dv a1 (10 : Int32)).bind fun x1 =>
  (rd (g 46) 6 x1).bind fun x2 =>
  (kF_carry E g a1).bind (un2 fun y3a y3b =>
  (rd (y3b 46) 6 x1).bind fun x4 =>
  (kF_X3_enters y3b a1 x2 x4).bind fun g5 =>
  some (y3a, g5))
set_option maxHeartbeats 4000000 in
theorem kC_makes {l : Launch} {D : va_G} {A : Nat → Prop} {K : Nat → Nat} {δ : Nat → ClassId} {sr ρ : Rf} {dy : va_W} {E : EE} (hE : EOK δ ρ dy E) {g : St} {a1 : Int32} {z : Int32 × St} (hf : kF_makes E g a1 = some z) : Ct l yX0_makes cX0_makes 5 (some .int) 225 5190 D vwCl (kT δ) A (kW K δ sr ρ dy) [.ref (K 0), .int a1] g (QI D vwCl A (kW K δ sr ρ dy) z.1 z.2) := by
  unfold kF_makes at hf
  refine ct_intro (own := RX0) (lv0 := [(0, .ref (K 0)), (1, .int a1)]) (by decide) rfl (Nat.le_of_ble_eq_true rfl) rfl ?_
  intro p e s m args below meth c X hr
  refine tw_iload_n X dX0_makes_0 rfl 1 rfl ?_
  refine tw_bipush (v := 10) X dX0_makes_1 rfl ?_
  obtain ⟨x1, hx1, hf⟩ := bnd hf
  refine tw_idivV X dX0_makes_3 hx1 ?_
  refine tw_istore_n (lv' := [(2, .int x1), (0, .ref (K 0)), (1, .int a1)]) X dX0_makes_4 rfl (by decide) rfl ?_
  refine tw_aload_n X dX0_makes_5 rfl 1 rfl ?_
  refine kgX0_47_0 X  dX0_makes_6 ?_
  refine kgX0_174_3 X  dX0_makes_9 ?_
  refine tw_iload_n X dX0_makes_12 rfl 0 rfl ?_
  obtain ⟨x2, hx2, hf⟩ := bnd hf
  refine klX0_46 X hx2 dX0_makes_13 ?_
  refine tw_istore_n (lv' := [(3, .int x2), (2, .int x1), (0, .ref (K 0)), (1, .int a1)]) X dX0_makes_14 rfl (by decide) rfl ?_
  refine tw_aload_n X dX0_makes_15 rfl 2 rfl ?_
  refine tw_iload_n X dX0_makes_16 rfl 3 rfl ?_
  obtain ⟨⟨y3a, y3b⟩, hy3, hf⟩ := bnd hf
  dsimp only [un2] at hf
  refine tw_callVi (As := [.int a1]) (st := []) X (kC_carry hE hy3) kGX0_392 kI_X0_carry ⟨Nat.le_of_ble_eq_true rfl, Nat.le_of_ble_eq_true rfl⟩ ⟨Nat.zero_le _, Nat.zero_le _⟩ 0 rfl rfl rfl rfl (Nat.le_of_ble_eq_true rfl) dX0_makes_17 ?_
  refine tw_istore (lv' := [(4, .int y3a), (3, .int x2), (2, .int x1), (0, .ref (K 0)), (1, .int a1)]) X dX0_makes_20 (by decide) rfl ?_
  refine tw_aload_n X dX0_makes_22 rfl 3 rfl ?_
  refine kgX0_47_0 X  dX0_makes_23 ?_
  refine tw_iload_n X dX0_makes_26 rfl 4 rfl ?_
  refine tw_iload_n X dX0_makes_27 rfl 1 rfl ?_
  refine tw_aload_n X dX0_makes_28 rfl 3 rfl ?_
  refine kgX0_47_0 X  dX0_makes_29 ?_
  refine kgX0_174_3 X  dX0_makes_32 ?_
  refine tw_iload_n X dX0_makes_35 rfl 2 rfl ?_
  obtain ⟨x4, hx4, hf⟩ := bnd hf
  refine klX0_46 X hx4 dX0_makes_36 ?_
  obtain ⟨g5, hg5, hf⟩ := bnd hf
  refine tw_callVv (As := [.int a1, .int x2, .int x4]) (st := []) X (kC_X3_enters hg5) kGX0_395 kI_X3_enters ⟨Nat.le_of_ble_eq_true rfl, Nat.le_of_ble_eq_true rfl⟩ ⟨Nat.zero_le _, Nat.zero_le _⟩ 3 rfl rfl rfl rfl (Nat.le_of_ble_eq_true rfl) dX0_makes_37 ?_
  refine tw_iload X dX0_makes_40 0 rfl ?_
  exact tw_iret X hr (prj1 hf) (prj2 hf) dX0_makes_42
noncomputable def kF_make (E : EE) (g : St) (a1 : Int32) (a2 : Int32) : Option (Int32 × St) :=
  (kF_isPerson g a1).bind fun x1 =>
  Option.bind (α := Int32) (β := Int32 × St)
    (if x1 = 0 then
      some (0 : Int32)
    else
      jn (S := Unit) (T := Int32)
        (if a2 = (9 : Int32) then
          some (.inl ())
        else
          (kF_isPerson g a2).bind fun x12 =>
          if x12 = 0 then
            some (.inr (0 : Int32))
          else
            if a2 ≤ a1 then
              some (.inr (0 : Int32))
            else
              some (.inl ()))
        (fun j10 => some (1 : Int32)))
    (fun j3 => if j3 = 0 then
      some ((-1 : Int32), g)
    else
      (kF_can E g (((10 : Int32) * a1) + a2)).bind (un2 fun y5a y5b =>
      if y5a = 0 then
        some ((-4 : Int32), y5b)
      else
        (kF_makes E y5b (((10 : Int32) * a1) + a2)).bind (un2 fun y7a y7b =>
        some (y7a, y7b))))
set_option maxHeartbeats 4000000 in
theorem kC_make {l : Launch} {D : va_G} {A : Nat → Prop} {K : Nat → Nat} {δ : Nat → ClassId} {sr ρ : Rf} {dy : va_W} {E : EE} (hE : EOK δ ρ dy E) {g : St} {a1 : Int32} {a2 : Int32} {z : Int32 × St} (hf : kF_make E g a1 a2 = some z) : Ct l yX0_make cX0_make 4 (some .int) 226 5214 D vwCl (kT δ) A (kW K δ sr ρ dy) [.ref (K 0), .int a1, .int a2] g (QI D vwCl A (kW K δ sr ρ dy) z.1 z.2) := by
  unfold kF_make at hf
  refine ct_intro (own := RX0) (lv0 := [(0, .ref (K 0)), (1, .int a1), (2, .int a2)]) (by decide) rfl (Nat.le_of_ble_eq_true rfl) rfl ?_
  intro p e s m args below meth c X hr
  refine tw_aload_n X dX0_make_0 rfl 0 rfl ?_
  refine tw_iload_n X dX0_make_1 rfl 1 rfl ?_
  obtain ⟨x1, hx1, hf⟩ := bnd hf
  refine tw_callVz (As := [.int a1]) (st := []) X (kC_isPerson hx1) kGX0_185 kI_X0_isPerson ⟨Nat.le_of_ble_eq_true rfl, Nat.le_of_ble_eq_true rfl⟩ ⟨Nat.zero_le _, Nat.zero_le _⟩ 0 rfl rfl rfl rfl (Nat.le_of_ble_eq_true rfl) dX0_make_2 ?_
  intro hb2
  refine bj_walk (P := fun j3 : Int32 => TW p l e (rom 226 5214) s m args below meth c (MQ below (QI D vwCl A (kW K δ sr ρ dy) z.1 z.2) args s 0 0 A) D vwCl A (kW K δ sr ρ dy) 4 0 0 g 32 [(0, .ref (K 0)), (1, .int a1), (2, .int a2)] [.int j3]) hf ?_ ?_
  · intro j3 hf
    refine tw_istore_n (lv' := [(3, .int j3), (0, .ref (K 0)), (1, .int a1), (2, .int a2)]) X dX0_make_32 rfl (by decide) rfl ?_
    refine tw_iload_n X dX0_make_33 rfl 0 rfl ?_
    refine tw_if_ne (tgt := 39) X dX0_make_34 rfl hf (fun q9 hf => ?_) (fun q9 hf => ?_)
    · clear q9
      refine tw_iconst (v := -1) X dX0_make_37 rfl ?_
      exact tw_iret X hr (prj1 hf) (prj2 hf) dX0_make_38
    · clear q9
      refine tw_aload_n X dX0_make_39 rfl 1 rfl ?_
      refine tw_bipush (v := 10) X dX0_make_40 rfl ?_
      refine tw_iload_n X dX0_make_42 rfl 2 rfl ?_
      refine tw_imul X dX0_make_43 ?_
      refine tw_iload_n X dX0_make_44 rfl 3 rfl ?_
      refine tw_iadd X dX0_make_45 ?_
      obtain ⟨⟨y5a, y5b⟩, hy5, hf⟩ := bnd hf
      dsimp only [un2] at hf
      refine tw_callVz (As := [.int (((10 : Int32) * a1) + a2)]) (st := []) X (kC_can hE hy5) kGX0_389 kI_X0_can ⟨Nat.le_of_ble_eq_true rfl, Nat.le_of_ble_eq_true rfl⟩ ⟨Nat.zero_le _, Nat.zero_le _⟩ 0 rfl rfl rfl rfl (Nat.le_of_ble_eq_true rfl) dX0_make_46 ?_
      intro hb6
      refine tw_if_eq (tgt := 65) X dX0_make_49 rfl hf (fun q8 hf => ?_) (fun q8 hf => ?_)
      · clear q8
        refine tw_bipush (v := -4) X dX0_make_65 rfl ?_
        exact tw_iret X hr (prj1 hf) (prj2 hf) dX0_make_67
      · clear q8
        refine tw_aload_n X dX0_make_52 rfl 1 rfl ?_
        refine tw_bipush (v := 10) X dX0_make_53 rfl ?_
        refine tw_iload_n X dX0_make_55 rfl 2 rfl ?_
        refine tw_imul X dX0_make_56 ?_
        refine tw_iload_n X dX0_make_57 rfl 3 rfl ?_
        refine tw_iadd X dX0_make_58 ?_
        obtain ⟨⟨y7a, y7b⟩, hy7, hf⟩ := bnd hf
        dsimp only [un2] at hf
        refine tw_callVi (As := [.int (((10 : Int32) * a1) + a2)]) (st := []) X (kC_makes hE hy7) kGX0_398 kI_X0_makes ⟨Nat.le_of_ble_eq_true rfl, Nat.le_of_ble_eq_true rfl⟩ ⟨Nat.zero_le _, Nat.zero_le _⟩ 0 rfl rfl rfl rfl (Nat.le_of_ble_eq_true rfl) dX0_make_59 ?_
        refine tw_goto (tgt := 67) X dX0_make_62 rfl ?_
        exact tw_iret X hr (prj1 hf) (prj2 hf) dX0_make_67
  · intro zz21 hf hk4
    refine tw_if_eq (tgt := 31) X dX0_make_5 rfl hf (fun q20 hf => ?_) (fun q20 hf => ?_)
    · clear q20
      refine tw_iconst (v := 0) X dX0_make_31 rfl ?_
      have hL := hk4 _ hf
      exact hL
    · clear q20
      refine tw_iload_n X dX0_make_8 rfl 2 rfl ?_
      refine tw_bipush (v := 9) X dX0_make_9 rfl ?_
      refine jn_walk (P := fun j10 : Unit => TW p l e (rom 226 5214) s m args below meth c (MQ below (QI D vwCl A (kW K δ sr ρ dy) z.1 z.2) args s 0 0 A) D vwCl A (kW K δ sr ρ dy) 4 0 0 g 27 [(0, .ref (K 0)), (1, .int a1), (2, .int a2)] []) hf ?_ ?_
      · intro j10 hf
        refine tw_iconst (v := 1) X dX0_make_27 rfl ?_
        refine tw_goto (tgt := 32) X dX0_make_28 rfl ?_
        have hL := hk4 _ hf
        exact hL
      · intro zz19 hf hk11
        refine tw_icmp_eq (tgt := 27) X dX0_make_11 rfl hf (fun q18 hf => ?_) (fun q18 hf => ?_)
        · clear q18
          have hL := leafL hf hk11
          exact hL
        · clear q18
          refine tw_aload_n X dX0_make_14 rfl 0 rfl ?_
          refine tw_iload_n X dX0_make_15 rfl 2 rfl ?_
          obtain ⟨x12, hx12, hf⟩ := bnd hf
          refine tw_callVz (As := [.int a2]) (st := []) X (kC_isPerson hx12) kGX0_185 kI_X0_isPerson ⟨Nat.le_of_ble_eq_true rfl, Nat.le_of_ble_eq_true rfl⟩ ⟨Nat.zero_le _, Nat.zero_le _⟩ 0 rfl rfl rfl rfl (Nat.le_of_ble_eq_true rfl) dX0_make_16 ?_
          intro hb13
          refine tw_if_eq (tgt := 31) X dX0_make_19 rfl hf (fun q17 hf => ?_) (fun q17 hf => ?_)
          · clear q17
            refine tw_iconst (v := 0) X dX0_make_31 rfl ?_
            have hf14 := leafR hf hk11
            have hL := hk4 _ hf14
            exact hL
          · clear q17
            refine tw_iload_n X dX0_make_22 rfl 1 rfl ?_
            refine tw_iload_n X dX0_make_23 rfl 2 rfl ?_
            refine tw_icmp_ge (tgt := 31) X dX0_make_24 rfl hf (fun q16 hf => ?_) (fun q16 hf => ?_)
            · clear q16
              refine tw_iconst (v := 0) X dX0_make_31 rfl ?_
              have hf15 := leafR hf hk11
              have hL := hk4 _ hf15
              exact hL
            · clear q16
              have hL := leafL hf hk11
              exact hL
noncomputable def kF_canGoBack (g : St) (a1 : Int32) : Option (Int32) :=
  (rd (g 55) 12 a1).bind fun x1 =>
  (dv x1 (10 : Int32)).bind fun x2 =>
  (rd (g 55) 12 a1).bind fun x3 =>
  (rm x3 (10 : Int32)).bind fun x4 =>
  (rd (g 46) 6 x2).bind fun x5 =>
  (rd (g 57) 12 a1).bind fun x6 =>
  if x5 = x6 then
    if x4 = (9 : Int32) then
      (rd (g 56) 12 a1).bind fun x7 =>
      (rd (g 51) 8 x7).bind fun x8 =>
      if x8 ≤ 0 then
        some (0 : Int32)
      else
        (rd (g 57) 12 a1).bind fun x9 =>
        (rd (g 51) 8 x9).bind fun x10 =>
        if (99 : Int32) ≤ x10 then
          some (0 : Int32)
        else
          some (1 : Int32)
    else
      (rd (g 46) 6 x4).bind fun x13 =>
      (rd (g 56) 12 a1).bind fun x14 =>
      if x13 = x14 then
        some (1 : Int32)
      else
        some (0 : Int32)
  else
    some (0 : Int32)
set_option maxHeartbeats 4000000 in
theorem kC_canGoBack {l : Launch} {D : va_G} {A : Nat → Prop} {K : Nat → Nat} {δ : Nat → ClassId} {sr ρ : Rf} {dy : va_W} {g : St} {a1 : Int32} {z : Int32} (hf : kF_canGoBack g a1 = some z) : Ct l yX0_canGoBack cX0_canGoBack 4 (some .boolean) 0 0 D vwCl (kT δ) A (kW K δ sr ρ dy) [.ref (K 0), .int a1] g (QZ D vwCl A (kW K δ sr ρ dy) z g) := by
  unfold kF_canGoBack at hf
  refine ct_intro (own := RX0) (lv0 := [(0, .ref (K 0)), (1, .int a1)]) (by decide) rfl (Nat.le_of_ble_eq_true rfl) rfl ?_
  intro p e s m args below meth c X hr
  refine tw_aload_n X dX0_canGoBack_0 rfl 0 rfl ?_
  refine kgX0_47_0 X  dX0_canGoBack_1 ?_
  refine kgX0_401_3 X  dX0_canGoBack_4 ?_
  refine tw_iload_n X dX0_canGoBack_7 rfl 1 rfl ?_
  obtain ⟨x1, hx1, hf⟩ := bnd hf
  refine klX0_55 X hx1 dX0_canGoBack_8 ?_
  refine tw_bipush (v := 10) X dX0_canGoBack_9 rfl ?_
  obtain ⟨x2, hx2, hf⟩ := bnd hf
  refine tw_idivV X dX0_canGoBack_11 hx2 ?_
  refine tw_istore_n (lv' := [(2, .int x2), (0, .ref (K 0)), (1, .int a1)]) X dX0_canGoBack_12 rfl (by decide) rfl ?_
  refine tw_aload_n X dX0_canGoBack_13 rfl 1 rfl ?_
  refine kgX0_47_0 X  dX0_canGoBack_14 ?_
  refine kgX0_401_3 X  dX0_canGoBack_17 ?_
  refine tw_iload_n X dX0_canGoBack_20 rfl 2 rfl ?_
  obtain ⟨x3, hx3, hf⟩ := bnd hf
  refine klX0_55 X hx3 dX0_canGoBack_21 ?_
  refine tw_bipush (v := 10) X dX0_canGoBack_22 rfl ?_
  obtain ⟨x4, hx4, hf⟩ := bnd hf
  refine tw_iremV X dX0_canGoBack_24 hx4 ?_
  refine tw_istore_n (lv' := [(3, .int x4), (2, .int x2), (0, .ref (K 0)), (1, .int a1)]) X dX0_canGoBack_25 rfl (by decide) rfl ?_
  refine tw_aload_n X dX0_canGoBack_26 rfl 2 rfl ?_
  refine kgX0_47_0 X  dX0_canGoBack_27 ?_
  refine kgX0_174_3 X  dX0_canGoBack_30 ?_
  refine tw_iload_n X dX0_canGoBack_33 rfl 1 rfl ?_
  obtain ⟨x5, hx5, hf⟩ := bnd hf
  refine klX0_46 X hx5 dX0_canGoBack_34 ?_
  refine tw_aload_n X dX0_canGoBack_35 rfl 2 rfl ?_
  refine kgX0_47_0 X  dX0_canGoBack_36 ?_
  refine kgX0_404_3 X  dX0_canGoBack_39 ?_
  refine tw_iload_n X dX0_canGoBack_42 rfl 3 rfl ?_
  obtain ⟨x6, hx6, hf⟩ := bnd hf
  refine klX0_57 X hx6 dX0_canGoBack_43 ?_
  refine tw_icmp_eq (tgt := 49) X dX0_canGoBack_44 rfl hf (fun q17 hf => ?_) (fun q17 hf => ?_)
  · clear q17
    refine tw_iload_n X dX0_canGoBack_49 rfl 0 rfl ?_
    refine tw_bipush (v := 9) X dX0_canGoBack_50 rfl ?_
    refine tw_icmp_ne (tgt := 105) X dX0_canGoBack_52 rfl hf (fun q16 hf => ?_) (fun q16 hf => ?_)
    · clear q16
      refine tw_aload_n X dX0_canGoBack_55 rfl 2 rfl ?_
      refine kgX0_47_0 X  dX0_canGoBack_56 ?_
      refine kgX0_201_3 X  dX0_canGoBack_59 ?_
      refine tw_aload_n X dX0_canGoBack_62 rfl 2 rfl ?_
      refine kgX0_47_0 X  dX0_canGoBack_63 ?_
      refine kgX0_407_3 X  dX0_canGoBack_66 ?_
      refine tw_iload_n X dX0_canGoBack_69 rfl 3 rfl ?_
      obtain ⟨x7, hx7, hf⟩ := bnd hf
      refine klX0_56 X hx7 dX0_canGoBack_70 ?_
      obtain ⟨x8, hx8, hf⟩ := bnd hf
      refine klX0_51 X hx8 dX0_canGoBack_71 ?_
      refine tw_if_le (tgt := 101) X dX0_canGoBack_72 rfl hf (fun q12 hf => ?_) (fun q12 hf => ?_)
      · clear q12
        refine tw_iconst (v := 0) X dX0_canGoBack_101 rfl ?_
        refine tw_goto (tgt := 131) X dX0_canGoBack_102 rfl ?_
        exact tw_zret X hr (Or.inl rfl) (Option.some.inj hf) rfl dX0_canGoBack_131
      · clear q12
        refine tw_aload_n X dX0_canGoBack_75 rfl 2 rfl ?_
        refine kgX0_47_0 X  dX0_canGoBack_76 ?_
        refine kgX0_201_3 X  dX0_canGoBack_79 ?_
        refine tw_aload_n X dX0_canGoBack_82 rfl 2 rfl ?_
        refine kgX0_47_0 X  dX0_canGoBack_83 ?_
        refine kgX0_404_3 X  dX0_canGoBack_86 ?_
        refine tw_iload_n X dX0_canGoBack_89 rfl 3 rfl ?_
        obtain ⟨x9, hx9, hf⟩ := bnd hf
        refine klX0_57 X hx9 dX0_canGoBack_90 ?_
        obtain ⟨x10, hx10, hf⟩ := bnd hf
        refine klX0_51 X hx10 dX0_canGoBack_91 ?_
        refine tw_bipush (v := 99) X dX0_canGoBack_92 rfl ?_
        refine tw_icmp_ge (tgt := 101) X dX0_canGoBack_94 rfl hf (fun q11 hf => ?_) (fun q11 hf => ?_)
        · clear q11
          refine tw_iconst (v := 0) X dX0_canGoBack_101 rfl ?_
          refine tw_goto (tgt := 131) X dX0_canGoBack_102 rfl ?_
          exact tw_zret X hr (Or.inl rfl) (Option.some.inj hf) rfl dX0_canGoBack_131
        · clear q11
          refine tw_iconst (v := 1) X dX0_canGoBack_97 rfl ?_
          refine tw_goto (tgt := 131) X dX0_canGoBack_98 rfl ?_
          exact tw_zret X hr (Or.inr rfl) (Option.some.inj hf) rfl dX0_canGoBack_131
    · clear q16
      refine tw_aload_n X dX0_canGoBack_105 rfl 2 rfl ?_
      refine kgX0_47_0 X  dX0_canGoBack_106 ?_
      refine kgX0_174_3 X  dX0_canGoBack_109 ?_
      refine tw_iload_n X dX0_canGoBack_112 rfl 0 rfl ?_
      obtain ⟨x13, hx13, hf⟩ := bnd hf
      refine klX0_46 X hx13 dX0_canGoBack_113 ?_
      refine tw_aload_n X dX0_canGoBack_114 rfl 2 rfl ?_
      refine kgX0_47_0 X  dX0_canGoBack_115 ?_
      refine kgX0_407_3 X  dX0_canGoBack_118 ?_
      refine tw_iload_n X dX0_canGoBack_121 rfl 3 rfl ?_
      obtain ⟨x14, hx14, hf⟩ := bnd hf
      refine klX0_56 X hx14 dX0_canGoBack_122 ?_
      refine tw_icmp_ne (tgt := 130) X dX0_canGoBack_123 rfl hf (fun q15 hf => ?_) (fun q15 hf => ?_)
      · clear q15
        refine tw_iconst (v := 1) X dX0_canGoBack_126 rfl ?_
        refine tw_goto (tgt := 131) X dX0_canGoBack_127 rfl ?_
        exact tw_zret X hr (Or.inr rfl) (Option.some.inj hf) rfl dX0_canGoBack_131
      · clear q15
        refine tw_iconst (v := 0) X dX0_canGoBack_130 rfl ?_
        exact tw_zret X hr (Or.inl rfl) (Option.some.inj hf) rfl dX0_canGoBack_131
  · clear q17
    refine tw_iconst (v := 0) X dX0_canGoBack_47 rfl ?_
    exact tw_zret X hr (Or.inl rfl) (Option.some.inj hf) rfl dX0_canGoBack_48
noncomputable def kF_carryBack (g : St) (a1 : Int32) (a2 : Int32) (a3 : Int32) : Option (St) :=
  (dv a1 (10 : Int32)).bind fun x1 =>
  (rm a1 (10 : Int32)).bind fun x2 =>
  if x2 = (9 : Int32) then
    (kF_X3_trades g x1 a2 (-a3)).bind fun g3 =>
    some g3
  else
    (kF_X3_exchange g x1 x2).bind fun g4 =>
    some g4
set_option maxHeartbeats 4000000 in
theorem kC_carryBack {l : Launch} {D : va_G} {A : Nat → Prop} {K : Nat → Nat} {δ : Nat → ClassId} {sr ρ : Rf} {dy : va_W} {g : St} {a1 : Int32} {a2 : Int32} {a3 : Int32} {z : St} (hf : kF_carryBack g a1 a2 a3 = some z) : Ct l yX0_carryBack cX0_carryBack 6 none 1 23 D vwCl (kT δ) A (kW K δ sr ρ dy) [.ref (K 0), .int a1, .int a2, .int a3] g (QV D vwCl A (kW K δ sr ρ dy) z) := by
  unfold kF_carryBack at hf
  refine ct_intro (own := RX0) (lv0 := [(0, .ref (K 0)), (1, .int a1), (2, .int a2), (3, .int a3)]) (by decide) rfl (Nat.le_of_ble_eq_true rfl) rfl ?_
  intro p e s m args below meth c X hr
  refine tw_iload_n X dX0_carryBack_0 rfl 1 rfl ?_
  refine tw_bipush (v := 10) X dX0_carryBack_1 rfl ?_
  obtain ⟨x1, hx1, hf⟩ := bnd hf
  refine tw_idivV X dX0_carryBack_3 hx1 ?_
  refine tw_istore (lv' := [(4, .int x1), (0, .ref (K 0)), (1, .int a1), (2, .int a2), (3, .int a3)]) X dX0_carryBack_4 (by decide) rfl ?_
  refine tw_iload_n X dX0_carryBack_6 rfl 2 rfl ?_
  refine tw_bipush (v := 10) X dX0_carryBack_7 rfl ?_
  obtain ⟨x2, hx2, hf⟩ := bnd hf
  refine tw_iremV X dX0_carryBack_9 hx2 ?_
  refine tw_istore (lv' := [(5, .int x2), (4, .int x1), (0, .ref (K 0)), (1, .int a1), (2, .int a2), (3, .int a3)]) X dX0_carryBack_10 (by decide) rfl ?_
  refine tw_iload X dX0_carryBack_12 0 rfl ?_
  refine tw_bipush (v := 9) X dX0_carryBack_14 rfl ?_
  refine tw_icmp_ne (tgt := 34) X dX0_carryBack_16 rfl hf (fun q5 hf => ?_) (fun q5 hf => ?_)
  · clear q5
    refine tw_aload_n X dX0_carryBack_19 rfl 2 rfl ?_
    refine kgX0_47_0 X  dX0_carryBack_20 ?_
    refine tw_iload X dX0_carryBack_23 1 rfl ?_
    refine tw_iload_n X dX0_carryBack_25 rfl 4 rfl ?_
    refine tw_iload_n X dX0_carryBack_26 rfl 5 rfl ?_
    refine tw_ineg X dX0_carryBack_27 ?_
    obtain ⟨g3, hg3, hf⟩ := bnd hf
    refine tw_callVv (As := [.int x1, .int a2, .int (-a3)]) (st := []) X (kC_X3_trades hg3) kGX0_379 kI_X3_trades ⟨Nat.le_of_ble_eq_true rfl, Nat.le_of_ble_eq_true rfl⟩ ⟨Nat.zero_le _, Nat.zero_le _⟩ 3 rfl rfl rfl rfl (Nat.le_of_ble_eq_true rfl) dX0_carryBack_28 ?_
    refine tw_goto (tgt := 45) X dX0_carryBack_31 rfl ?_
    exact tw_vret X hr (Option.some.inj hf) dX0_carryBack_45
  · clear q5
    refine tw_aload_n X dX0_carryBack_34 rfl 2 rfl ?_
    refine kgX0_47_0 X  dX0_carryBack_35 ?_
    refine tw_iload X dX0_carryBack_38 1 rfl ?_
    refine tw_iload X dX0_carryBack_40 0 rfl ?_
    obtain ⟨g4, hg4, hf⟩ := bnd hf
    refine tw_callVv (As := [.int x1, .int x2]) (st := []) X (kC_X3_exchange hg4) kGX0_383 kI_X3_exchange ⟨Nat.le_of_ble_eq_true rfl, Nat.le_of_ble_eq_true rfl⟩ ⟨Nat.zero_le _, Nat.zero_le _⟩ 3 rfl rfl rfl rfl (Nat.le_of_ble_eq_true rfl) dX0_carryBack_42 ?_
    exact tw_vret X hr (Option.some.inj hf) dX0_carryBack_45
noncomputable def kF_back (g : St) : Option (Int32 × St) :=
  if (g 40 3) = 0 then
    some ((-3 : Int32), g)
  else
    (kF_canGoBack g ((g 40 3) - (1 : Int32))).bind fun x1 =>
    if x1 = 0 then
      some ((-4 : Int32), g)
    else
      (rd (g 55) 12 ((g 40 3) - (1 : Int32))).bind fun x3 =>
      (rd (g 56) 12 ((g 40 3) - (1 : Int32))).bind fun x4 =>
      (kF_carryBack g x3 x4 (0 : Int32)).bind fun g5 =>
      (pf g5 40 3 ((g5 40 3) - (1 : Int32))).bind fun g6 =>
      (rd (g6 55) 12 ((g 40 3) - (1 : Int32))).bind fun x7 =>
      some (x7, g6)
set_option maxHeartbeats 4000000 in
theorem kC_back {l : Launch} {D : va_G} {A : Nat → Prop} {K : Nat → Nat} {δ : Nat → ClassId} {sr ρ : Rf} {dy : va_W} {g : St} {z : Int32 × St} (hf : kF_back g = some z) : Ct l yX0_back cX0_back 2 (some .int) 2 48 D vwCl (kT δ) A (kW K δ sr ρ dy) [.ref (K 0)] g (QI D vwCl A (kW K δ sr ρ dy) z.1 z.2) := by
  unfold kF_back at hf
  refine ct_intro (own := RX0) (lv0 := [(0, .ref (K 0))]) (by decide) rfl (Nat.le_of_ble_eq_true rfl) rfl ?_
  intro p e s m args below meth c X hr
  refine tw_aload_n X dX0_back_0 rfl 0 rfl ?_
  refine kgX0_47_0 X  dX0_back_1 ?_
  refine kgX0_217_3 X  dX0_back_4 ?_
  refine tw_if_ne (tgt := 13) X dX0_back_7 rfl hf (fun q9 hf => ?_) (fun q9 hf => ?_)
  · clear q9
    refine tw_bipush (v := -3) X dX0_back_10 rfl ?_
    exact tw_iret X hr (prj1 hf) (prj2 hf) dX0_back_12
  · clear q9
    refine tw_aload_n X dX0_back_13 rfl 0 rfl ?_
    refine kgX0_47_0 X  dX0_back_14 ?_
    refine kgX0_217_3 X  dX0_back_17 ?_
    refine tw_iconst (v := 1) X dX0_back_20 rfl ?_
    refine tw_isub X dX0_back_21 ?_
    refine tw_istore_n (lv' := [(1, .int ((g 40 3) - (1 : Int32))), (0, .ref (K 0))]) X dX0_back_22 rfl (by decide) rfl ?_
    refine tw_aload_n X dX0_back_23 rfl 1 rfl ?_
    refine tw_iload_n X dX0_back_24 rfl 0 rfl ?_
    obtain ⟨x1, hx1, hf⟩ := bnd hf
    refine tw_callVz (As := [.int ((g 40 3) - (1 : Int32))]) (st := []) X (kC_canGoBack hx1) kGX0_410 kI_X0_canGoBack ⟨Nat.le_of_ble_eq_true rfl, Nat.le_of_ble_eq_true rfl⟩ ⟨Nat.zero_le _, Nat.zero_le _⟩ 0 rfl rfl rfl rfl (Nat.le_of_ble_eq_true rfl) dX0_back_25 ?_
    intro hb2
    refine tw_if_ne (tgt := 34) X dX0_back_28 rfl hf (fun q8 hf => ?_) (fun q8 hf => ?_)
    · clear q8
      refine tw_bipush (v := -4) X dX0_back_31 rfl ?_
      exact tw_iret X hr (prj1 hf) (prj2 hf) dX0_back_33
    · clear q8
      refine tw_aload_n X dX0_back_34 rfl 1 rfl ?_
      refine tw_aload_n X dX0_back_35 rfl 1 rfl ?_
      refine kgX0_47_0 X  dX0_back_36 ?_
      refine kgX0_401_3 X  dX0_back_39 ?_
      refine tw_iload_n X dX0_back_42 rfl 0 rfl ?_
      obtain ⟨x3, hx3, hf⟩ := bnd hf
      refine klX0_55 X hx3 dX0_back_43 ?_
      refine tw_aload_n X dX0_back_44 rfl 1 rfl ?_
      refine kgX0_47_0 X  dX0_back_45 ?_
      refine kgX0_407_3 X  dX0_back_48 ?_
      refine tw_iload_n X dX0_back_51 rfl 0 rfl ?_
      obtain ⟨x4, hx4, hf⟩ := bnd hf
      refine klX0_56 X hx4 dX0_back_52 ?_
      refine tw_iconst (v := 0) X dX0_back_53 rfl ?_
      obtain ⟨g5, hg5, hf⟩ := bnd hf
      refine tw_callVv (As := [.int x3, .int x4, .int (0 : Int32)]) (st := []) X (kC_carryBack hg5) kGX0_413 kI_X0_carryBack ⟨Nat.le_of_ble_eq_true rfl, Nat.le_of_ble_eq_true rfl⟩ ⟨Nat.zero_le _, Nat.zero_le _⟩ 0 rfl rfl rfl rfl (Nat.le_of_ble_eq_true rfl) dX0_back_54 ?_
      refine tw_aload_n X dX0_back_57 rfl 1 rfl ?_
      refine kgX0_47_0 X  dX0_back_58 ?_
      refine tw_dup X dX0_back_61 rfl ?_
      refine kgX0_217_3 X  dX0_back_62 ?_
      refine tw_iconst (v := 1) X dX0_back_65 rfl ?_
      refine tw_isub X dX0_back_66 ?_
      obtain ⟨g6, hg6, hf⟩ := bnd hf
      refine kpX0_217_3 X hg6 dX0_back_67 ?_
      refine tw_aload_n X dX0_back_70 rfl 1 rfl ?_
      refine kgX0_47_0 X  dX0_back_71 ?_
      refine kgX0_401_3 X  dX0_back_74 ?_
      refine tw_iload_n X dX0_back_77 rfl 0 rfl ?_
      obtain ⟨x7, hx7, hf⟩ := bnd hf
      refine klX0_55 X hx7 dX0_back_78 ?_
      exact tw_iret X hr (prj1 hf) (prj2 hf) dX0_back_79
