/-! THE COMPONENT's METHODS (printed by gen/mk_comp.py) -/
set_option maxRecDepth 100000
noncomputable def kF_X3_become_3_5 (g : St) : Option (St) :=
  (pf g 40 0 (g 80 0)).bind fun g1 =>
  (pf g1 40 1 (g1 80 1)).bind fun g2 =>
  (pf g2 40 2 (g2 80 2)).bind fun g3 =>
  (pf g3 40 3 (g3 80 3)).bind fun g4 =>
  (pf g4 40 4 (g4 80 4)).bind fun g5 =>
  (cpy g5 85 6 45 6 (0 : Int32) (0 : Int32) (6 : Int32)).bind fun g6 =>
  (cpy g6 86 6 46 6 (0 : Int32) (0 : Int32) (6 : Int32)).bind fun g7 =>
  (cpy g7 87 6 47 6 (0 : Int32) (0 : Int32) (6 : Int32)).bind fun g8 =>
  (cpy g8 88 6 48 6 (0 : Int32) (0 : Int32) (6 : Int32)).bind fun g9 =>
  (cpy g9 89 6 49 6 (0 : Int32) (0 : Int32) (6 : Int32)).bind fun g10 =>
  (cpy g10 90 8 50 8 (0 : Int32) (0 : Int32) (8 : Int32)).bind fun g11 =>
  (cpy g11 91 8 51 8 (0 : Int32) (0 : Int32) (8 : Int32)).bind fun g12 =>
  (cpy g12 92 6 52 6 (0 : Int32) (0 : Int32) (6 : Int32)).bind fun g13 =>
  (cpy g13 93 6 53 6 (0 : Int32) (0 : Int32) (6 : Int32)).bind fun g14 =>
  (cpy g14 94 6 54 6 (0 : Int32) (0 : Int32) (6 : Int32)).bind fun g15 =>
  (cpy g15 95 12 55 12 (0 : Int32) (0 : Int32) (12 : Int32)).bind fun g16 =>
  (cpy g16 96 12 56 12 (0 : Int32) (0 : Int32) (12 : Int32)).bind fun g17 =>
  (cpy g17 97 12 57 12 (0 : Int32) (0 : Int32) (12 : Int32)).bind fun g18 =>
  some g18
set_option maxHeartbeats 4000000 in
theorem kC_X3_become_3_5 {l : Launch} {D : va_G} {A : Nat → Prop} {K : Nat → Nat} {δ : Nat → ClassId} {sr ρ : Rf} {dy : va_W} (hs : ρ 0 2 = ρ 0 0) {g : St} {z : St} (hf : kF_X3_become_3_5 g = some z) : Ct l yX3_become cX3_become 2 none 1 40 D vwCl (kT δ) A (kW K δ sr ρ dy) [.ref (K 3), .ref (K 5)] g (QV D vwCl A (kW K δ sr ρ dy) z) := by
  unfold kF_X3_become_3_5 at hf
  refine ct_intro (own := RX3) (lv0 := [(0, .ref (K 3)), (1, .ref (K 5))]) (by decide) rfl (Nat.le_of_ble_eq_true rfl) rfl ?_
  intro p e s m args below meth c X hr
  refine tw_aload_n X dX3_become_0 rfl 0 rfl ?_
  refine tw_aload_n X dX3_become_1 rfl 1 rfl ?_
  refine kgX3_61_5 X  dX3_become_2 ?_
  obtain ⟨g1, hg1, hf⟩ := bnd hf
  refine kpX3_61_3 X hg1 dX3_become_5 ?_
  refine tw_aload_n X dX3_become_8 rfl 0 rfl ?_
  refine tw_aload_n X dX3_become_9 rfl 1 rfl ?_
  refine kgX3_64_5 X  dX3_become_10 ?_
  obtain ⟨g2, hg2, hf⟩ := bnd hf
  refine kpX3_64_3 X hg2 dX3_become_13 ?_
  refine tw_aload_n X dX3_become_16 rfl 0 rfl ?_
  refine tw_aload_n X dX3_become_17 rfl 1 rfl ?_
  refine kgX3_67_5 X  dX3_become_18 ?_
  obtain ⟨g3, hg3, hf⟩ := bnd hf
  refine kpX3_67_3 X hg3 dX3_become_21 ?_
  refine tw_aload_n X dX3_become_24 rfl 0 rfl ?_
  refine tw_aload_n X dX3_become_25 rfl 1 rfl ?_
  refine kgX3_70_5 X  dX3_become_26 ?_
  obtain ⟨g4, hg4, hf⟩ := bnd hf
  refine kpX3_70_3 X hg4 dX3_become_29 ?_
  refine tw_aload_n X dX3_become_32 rfl 0 rfl ?_
  refine tw_aload_n X dX3_become_33 rfl 1 rfl ?_
  refine kgX3_9_5 X  dX3_become_34 ?_
  obtain ⟨g5, hg5, hf⟩ := bnd hf
  refine kpX3_9_3 X hg5 dX3_become_37 ?_
  refine tw_aload_n X dX3_become_40 rfl 0 rfl ?_
  refine tw_aload_n X dX3_become_41 rfl 1 rfl ?_
  refine kgq_2 X  dX3_become_42 ?_
  refine kpq_same X hs dX3_become_45 ?_
  refine tw_aload_n X dX3_become_48 rfl 1 rfl ?_
  refine kgX3_15_5 X  dX3_become_49 ?_
  refine tw_iconst (v := 0) X dX3_become_52 rfl ?_
  refine tw_aload_n X dX3_become_53 rfl 0 rfl ?_
  refine kgX3_15_3 X  dX3_become_54 ?_
  refine tw_iconst (v := 0) X dX3_become_57 rfl ?_
  refine tw_bipush (v := 6) X dX3_become_58 rfl ?_
  obtain ⟨g6, hg6, hf⟩ := bnd hf
  refine kcX3_85_45 X hg6 ⟨Nat.le_of_ble_eq_true rfl, Nat.le_of_ble_eq_true rfl⟩ (Nat.le_of_ble_eq_true rfl) dX3_become_60 ?_
  refine tw_aload_n X dX3_become_63 rfl 1 rfl ?_
  refine kgX3_19_5 X  dX3_become_64 ?_
  refine tw_iconst (v := 0) X dX3_become_67 rfl ?_
  refine tw_aload_n X dX3_become_68 rfl 0 rfl ?_
  refine kgX3_19_3 X  dX3_become_69 ?_
  refine tw_iconst (v := 0) X dX3_become_72 rfl ?_
  refine tw_bipush (v := 6) X dX3_become_73 rfl ?_
  obtain ⟨g7, hg7, hf⟩ := bnd hf
  refine kcX3_86_46 X hg7 ⟨Nat.le_of_ble_eq_true rfl, Nat.le_of_ble_eq_true rfl⟩ (Nat.le_of_ble_eq_true rfl) dX3_become_75 ?_
  refine tw_aload_n X dX3_become_78 rfl 1 rfl ?_
  refine kgX3_22_5 X  dX3_become_79 ?_
  refine tw_iconst (v := 0) X dX3_become_82 rfl ?_
  refine tw_aload_n X dX3_become_83 rfl 0 rfl ?_
  refine kgX3_22_3 X  dX3_become_84 ?_
  refine tw_iconst (v := 0) X dX3_become_87 rfl ?_
  refine tw_bipush (v := 6) X dX3_become_88 rfl ?_
  obtain ⟨g8, hg8, hf⟩ := bnd hf
  refine kcX3_87_47 X hg8 ⟨Nat.le_of_ble_eq_true rfl, Nat.le_of_ble_eq_true rfl⟩ (Nat.le_of_ble_eq_true rfl) dX3_become_90 ?_
  refine tw_aload_n X dX3_become_93 rfl 1 rfl ?_
  refine kgX3_25_5 X  dX3_become_94 ?_
  refine tw_iconst (v := 0) X dX3_become_97 rfl ?_
  refine tw_aload_n X dX3_become_98 rfl 0 rfl ?_
  refine kgX3_25_3 X  dX3_become_99 ?_
  refine tw_iconst (v := 0) X dX3_become_102 rfl ?_
  refine tw_bipush (v := 6) X dX3_become_103 rfl ?_
  obtain ⟨g9, hg9, hf⟩ := bnd hf
  refine kcX3_88_48 X hg9 ⟨Nat.le_of_ble_eq_true rfl, Nat.le_of_ble_eq_true rfl⟩ (Nat.le_of_ble_eq_true rfl) dX3_become_105 ?_
  refine tw_aload_n X dX3_become_108 rfl 1 rfl ?_
  refine kgX3_28_5 X  dX3_become_109 ?_
  refine tw_iconst (v := 0) X dX3_become_112 rfl ?_
  refine tw_aload_n X dX3_become_113 rfl 0 rfl ?_
  refine kgX3_28_3 X  dX3_become_114 ?_
  refine tw_iconst (v := 0) X dX3_become_117 rfl ?_
  refine tw_bipush (v := 6) X dX3_become_118 rfl ?_
  obtain ⟨g10, hg10, hf⟩ := bnd hf
  refine kcX3_89_49 X hg10 ⟨Nat.le_of_ble_eq_true rfl, Nat.le_of_ble_eq_true rfl⟩ (Nat.le_of_ble_eq_true rfl) dX3_become_120 ?_
  refine tw_aload_n X dX3_become_123 rfl 1 rfl ?_
  refine kgX3_31_5 X  dX3_become_124 ?_
  refine tw_iconst (v := 0) X dX3_become_127 rfl ?_
  refine tw_aload_n X dX3_become_128 rfl 0 rfl ?_
  refine kgX3_31_3 X  dX3_become_129 ?_
  refine tw_iconst (v := 0) X dX3_become_132 rfl ?_
  refine tw_bipush (v := 8) X dX3_become_133 rfl ?_
  obtain ⟨g11, hg11, hf⟩ := bnd hf
  refine kcX3_90_50 X hg11 ⟨Nat.le_of_ble_eq_true rfl, Nat.le_of_ble_eq_true rfl⟩ (Nat.le_of_ble_eq_true rfl) dX3_become_135 ?_
  refine tw_aload_n X dX3_become_138 rfl 1 rfl ?_
  refine kgX3_34_5 X  dX3_become_139 ?_
  refine tw_iconst (v := 0) X dX3_become_142 rfl ?_
  refine tw_aload_n X dX3_become_143 rfl 0 rfl ?_
  refine kgX3_34_3 X  dX3_become_144 ?_
  refine tw_iconst (v := 0) X dX3_become_147 rfl ?_
  refine tw_bipush (v := 8) X dX3_become_148 rfl ?_
  obtain ⟨g12, hg12, hf⟩ := bnd hf
  refine kcX3_91_51 X hg12 ⟨Nat.le_of_ble_eq_true rfl, Nat.le_of_ble_eq_true rfl⟩ (Nat.le_of_ble_eq_true rfl) dX3_become_150 ?_
  refine tw_aload_n X dX3_become_153 rfl 1 rfl ?_
  refine kgX3_37_5 X  dX3_become_154 ?_
  refine tw_iconst (v := 0) X dX3_become_157 rfl ?_
  refine tw_aload_n X dX3_become_158 rfl 0 rfl ?_
  refine kgX3_37_3 X  dX3_become_159 ?_
  refine tw_iconst (v := 0) X dX3_become_162 rfl ?_
  refine tw_bipush (v := 6) X dX3_become_163 rfl ?_
  obtain ⟨g13, hg13, hf⟩ := bnd hf
  refine kcX3_92_52 X hg13 ⟨Nat.le_of_ble_eq_true rfl, Nat.le_of_ble_eq_true rfl⟩ (Nat.le_of_ble_eq_true rfl) dX3_become_165 ?_
  refine tw_aload_n X dX3_become_168 rfl 1 rfl ?_
  refine kgX3_40_5 X  dX3_become_169 ?_
  refine tw_iconst (v := 0) X dX3_become_172 rfl ?_
  refine tw_aload_n X dX3_become_173 rfl 0 rfl ?_
  refine kgX3_40_3 X  dX3_become_174 ?_
  refine tw_iconst (v := 0) X dX3_become_177 rfl ?_
  refine tw_bipush (v := 6) X dX3_become_178 rfl ?_
  obtain ⟨g14, hg14, hf⟩ := bnd hf
  refine kcX3_93_53 X hg14 ⟨Nat.le_of_ble_eq_true rfl, Nat.le_of_ble_eq_true rfl⟩ (Nat.le_of_ble_eq_true rfl) dX3_become_180 ?_
  refine tw_aload_n X dX3_become_183 rfl 1 rfl ?_
  refine kgX3_43_5 X  dX3_become_184 ?_
  refine tw_iconst (v := 0) X dX3_become_187 rfl ?_
  refine tw_aload_n X dX3_become_188 rfl 0 rfl ?_
  refine kgX3_43_3 X  dX3_become_189 ?_
  refine tw_iconst (v := 0) X dX3_become_192 rfl ?_
  refine tw_bipush (v := 6) X dX3_become_193 rfl ?_
  obtain ⟨g15, hg15, hf⟩ := bnd hf
  refine kcX3_94_54 X hg15 ⟨Nat.le_of_ble_eq_true rfl, Nat.le_of_ble_eq_true rfl⟩ (Nat.le_of_ble_eq_true rfl) dX3_become_195 ?_
  refine tw_aload_n X dX3_become_198 rfl 1 rfl ?_
  refine kgX3_46_5 X  dX3_become_199 ?_
  refine tw_iconst (v := 0) X dX3_become_202 rfl ?_
  refine tw_aload_n X dX3_become_203 rfl 0 rfl ?_
  refine kgX3_46_3 X  dX3_become_204 ?_
  refine tw_iconst (v := 0) X dX3_become_207 rfl ?_
  refine tw_bipush (v := 12) X dX3_become_208 rfl ?_
  obtain ⟨g16, hg16, hf⟩ := bnd hf
  refine kcX3_95_55 X hg16 ⟨Nat.le_of_ble_eq_true rfl, Nat.le_of_ble_eq_true rfl⟩ (Nat.le_of_ble_eq_true rfl) dX3_become_210 ?_
  refine tw_aload_n X dX3_become_213 rfl 1 rfl ?_
  refine kgX3_49_5 X  dX3_become_214 ?_
  refine tw_iconst (v := 0) X dX3_become_217 rfl ?_
  refine tw_aload_n X dX3_become_218 rfl 0 rfl ?_
  refine kgX3_49_3 X  dX3_become_219 ?_
  refine tw_iconst (v := 0) X dX3_become_222 rfl ?_
  refine tw_bipush (v := 12) X dX3_become_223 rfl ?_
  obtain ⟨g17, hg17, hf⟩ := bnd hf
  refine kcX3_96_56 X hg17 ⟨Nat.le_of_ble_eq_true rfl, Nat.le_of_ble_eq_true rfl⟩ (Nat.le_of_ble_eq_true rfl) dX3_become_225 ?_
  refine tw_aload_n X dX3_become_228 rfl 1 rfl ?_
  refine kgX3_52_5 X  dX3_become_229 ?_
  refine tw_iconst (v := 0) X dX3_become_232 rfl ?_
  refine tw_aload_n X dX3_become_233 rfl 0 rfl ?_
  refine kgX3_52_3 X  dX3_become_234 ?_
  refine tw_iconst (v := 0) X dX3_become_237 rfl ?_
  refine tw_bipush (v := 12) X dX3_become_238 rfl ?_
  obtain ⟨g18, hg18, hf⟩ := bnd hf
  refine kcX3_97_57 X hg18 ⟨Nat.le_of_ble_eq_true rfl, Nat.le_of_ble_eq_true rfl⟩ (Nat.le_of_ble_eq_true rfl) dX3_become_240 ?_
  exact tw_vret X hr (Option.some.inj hf) dX3_become_243
noncomputable def kF_runs (E : EE) (g : St) : Option (Int32 × St) :=
  Option.bind (α := St) (β := Int32 × St)
    (iter (L := St × Int32) (T := St) (un2 fun s5a s5b => 
      if (30 : Int32) ≤ s5b then
        some (.inr s5a)
      else
        (kF_drawn E s5a).bind (un2 fun y8a y8b =>
        if y8a < 0 then
          some (.inr y8b)
        else
          some (.inl (y8b, (s5b + (1 : Int32)))))) (g, (0 : Int32)))
    (fun j1 => (kF_isDone j1).bind fun x3 =>
    some (x3, j1))
set_option maxHeartbeats 4000000 in
theorem kC_runs {l : Launch} {D : va_G} {A : Nat → Prop} {K : Nat → Nat} {δ : Nat → ClassId} {sr ρ : Rf} {dy : va_W} {E : EE} (hE : EOK δ ρ dy E) {g : St} {z : Int32 × St} (hf : kF_runs E g = some z) : Ct l yX0_runs cX0_runs 2 (some .boolean) 229 5277 D vwCl (kT δ) A (kW K δ sr ρ dy) [.ref (K 0)] g (QZ D vwCl A (kW K δ sr ρ dy) z.1 z.2) := by
  unfold kF_runs at hf
  refine ct_intro (own := RX0) (lv0 := [(0, .ref (K 0))]) (by decide) rfl (Nat.le_of_ble_eq_true rfl) rfl ?_
  intro p e s m args below meth c X hr
  refine tw_iconst (v := 0) X dX0_runs_0 rfl ?_
  refine tw_istore_n (lv' := [(1, .int (0 : Int32)), (0, .ref (K 0))]) X dX0_runs_1 rfl (by decide) rfl ?_
  refine bj_walk (P := fun j1 : St => TW p l e (rom 229 5277) s m args below meth c (MQ below (QZ D vwCl A (kW K δ sr ρ dy) z.1 z.2) args s 0 0 A) D vwCl A (kW K δ sr ρ dy) 2 0 0 j1 21 [(0, .ref (K 0))] []) hf ?_ ?_
  · intro j1 hf
    refine tw_aload_n X dX0_runs_21 rfl 0 rfl ?_
    obtain ⟨x3, hx3, hf⟩ := bnd hf
    refine tw_callVz (As := []) (st := []) X (kC_isDone hx3) kGX0_416 kI_X0_isDone ⟨Nat.le_of_ble_eq_true rfl, Nat.le_of_ble_eq_true rfl⟩ ⟨Nat.zero_le _, Nat.zero_le _⟩ 0 rfl rfl rfl rfl (Nat.le_of_ble_eq_true rfl) dX0_runs_22 ?_
    intro hb4
    exact tw_zret X hr hb4 (prj1 hf) (prj2 hf) dX0_runs_25
  · intro zz13 hf hk2
    refine tw_sub [1, 0] (lv' := [(0, .ref (K 0)), (1, .int (0 : Int32))]) rfl ?_
    refine it_walk (P := un2 fun s5a s5b => TW p l e (rom 229 5277) s m args below meth c (MQ below (QZ D vwCl A (kW K δ sr ρ dy) z.1 z.2) args s 0 0 A) D vwCl A (kW K δ sr ρ dy) 2 0 0 s5a 2 [(0, .ref (K 0)), (1, .int s5b)] []) hf ?_
    rintro ⟨s5a, s5b⟩ zz12 hf hl6
    dsimp only [un2] at hf ⊢
    refine tw_iload_n X dX0_runs_2 rfl 1 rfl ?_
    refine tw_bipush (v := 30) X dX0_runs_3 rfl ?_
    refine tw_icmp_ge (tgt := 21) X dX0_runs_5 rfl hf (fun q11 hf => ?_) (fun q11 hf => ?_)
    · clear q11
      have hf7 := leafR hf hl6
      refine tw_sub [0] (lv' := [(0, .ref (K 0))]) rfl ?_
      have hL := hk2 _ hf7
      exact hL
    · clear q11
      refine tw_aload_n X dX0_runs_8 rfl 0 rfl ?_
      obtain ⟨⟨y8a, y8b⟩, hy8, hf⟩ := bnd hf
      dsimp only [un2] at hf
      refine tw_callVi (As := []) (st := []) X (kC_drawn hE hy8) kGX0_499 kI_X0_drawn ⟨Nat.le_of_ble_eq_true rfl, Nat.le_of_ble_eq_true rfl⟩ ⟨Nat.zero_le _, Nat.zero_le _⟩ 0 rfl rfl rfl rfl (Nat.le_of_ble_eq_true rfl) dX0_runs_9 ?_
      refine tw_if_lt (tgt := 21) X dX0_runs_12 rfl hf (fun q10 hf => ?_) (fun q10 hf => ?_)
      · clear q10
        have hf9 := leafR hf hl6
        refine tw_sub [0] (lv' := [(0, .ref (K 0))]) rfl ?_
        have hL := hk2 _ hf9
        exact hL
      · clear q10
        refine tw_iinc (q := 1) (v := (s5b + (1 : Int32))) (lv' := [(1, .int (s5b + (1 : Int32))), (0, .ref (K 0))]) X dX0_runs_15 rfl rfl (by decide) rfl ?_
        refine tw_goto (tgt := 2) X dX0_runs_18 rfl ?_
        refine tw_sub [1, 0] (lv' := [(0, .ref (K 0)), (1, .int (s5b + (1 : Int32)))]) rfl ?_
        have hL := leafL hf hl6
        exact hL
noncomputable def kF_often (E : EE) (ρ : Rf) (g : St) (a1 : Int32) : Option (Int32 × St × Rf) :=
  if (kF_isIn a1 (1 : Int32) (60 : Int32)) = 0 then
    some ((-1 : Int32), g, ρ)
  else
    (kF_X3_become_5_3 g).bind fun g2 =>
    Option.bind (α := St × Int32) (β := Int32 × St × Rf)
      (iter (L := St × Int32 × Int32 × Int32) (T := St × Int32) (un4 fun s7a s7b s7c s7d => 
        if a1 ≤ s7d then
          some (.inr (s7a, s7b))
        else
          (kF_X3_become_3_5 s7a).bind fun g10 =>
          (pf g10 40 4 s7c).bind fun g11 =>
          (kF_runs E g11).bind (un2 fun y12a y12b =>
          Option.bind (α := Int32) (β := ((St × Int32 × Int32 × Int32) ⊕ (St × Int32)))
            (if y12a = 0 then
              some (0 : Int32)
            else
              some (1 : Int32))
            (fun j14 => some (.inl (y12b, (s7b + j14), (y12b 40 4), (s7d + (1 : Int32))))))) (g2, (0 : Int32), (g2 40 4), (0 : Int32)))
      (un2 fun j4a j4b => (kF_X3_become_3_5 j4a).bind fun g6 =>
      some (j4b, g6, (upR ρ 0 2 (ρ 0 0))))
set_option maxHeartbeats 4000000 in
theorem kC_often {l : Launch} {D : va_G} {A : Nat → Prop} {K : Nat → Nat} {δ : Nat → ClassId} {sr ρ : Rf} {dy : va_W} {E : EE} (hE : EOK δ ρ dy E) {g : St} {a1 : Int32} {z : Int32 × St × Rf} (hf : kF_often E ρ g a1 = some z) : CtW l yX0_often cX0_often 6 (some .int) [((33 : Nat), (93 : Nat), (107 : Nat), (0 : Nat)), ((107 : Nat), (109 : Nat), (107 : Nat), (0 : Nat))] 230 5298 D vwCl (kT δ) A (kW K δ sr ρ dy) [.ref (K 0), .int a1] g (QI D vwCl A (kW K δ sr z.2.2 dy) z.1 z.2.1) := by
  unfold kF_often at hf
  refine ctW_intro (own := RX0) (lv0 := [(0, .ref (K 0)), (1, .int a1)]) (by decide) rfl (Nat.le_of_ble_eq_true rfl) rfl ?_
  intro p e s m args below meth c X hr
  refine tw_iload_n X dX0_often_0 rfl 1 rfl ?_
  refine tw_iconst (v := 1) X dX0_often_1 rfl ?_
  refine tw_bipush (v := 60) X dX0_often_2 rfl ?_
  refine tw_callSz (As := [.int a1, .int (1 : Int32), .int (60 : Int32)]) (st := []) X (kC_isIn (g := g) a1 (1 : Int32) (60 : Int32)) kGX0_149 kI_X0_isIn ⟨Nat.le_of_ble_eq_true rfl, Nat.le_of_ble_eq_true rfl⟩ ⟨Nat.zero_le _, Nat.zero_le _⟩ rfl rfl (Nat.le_of_ble_eq_true rfl) dX0_often_4 ?_
  intro hb1
  refine tw_if_ne (tgt := 12) X dX0_often_7 rfl hf (fun q21 hf => ?_) (fun q21 hf => ?_)
  · clear q21
    refine tw_iconst (v := -1) X dX0_often_10 rfl ?_
    obtain rfl := Option.some.inj hf
    exact tw_iret X hr rfl rfl dX0_often_11
  · clear q21
    refine tw_aload_n X dX0_often_12 rfl 0 rfl ?_
    refine kgX0_54_0 X  dX0_often_13 ?_
    refine tw_aload_n X dX0_often_16 rfl 0 rfl ?_
    refine kgX0_47_0 X  dX0_often_17 ?_
    obtain ⟨g2, hg2, hf⟩ := bnd hf
    refine tw_callVv (As := [.ref (K 3)]) (st := []) X (kC_X3_become_5_3 hg2) kGX0_502 kI_X3_become ⟨Nat.le_of_ble_eq_true rfl, Nat.le_of_ble_eq_true rfl⟩ ⟨Nat.zero_le _, Nat.zero_le _⟩ 5 rfl rfl rfl rfl (Nat.le_of_ble_eq_true rfl) dX0_often_20 ?_
    have hE3 : EOK δ (upR ρ 0 2 (ρ 0 0)) dy E := hE
    refine tw_iconst (v := 0) X dX0_often_23 rfl ?_
    refine tw_istore_n (lv' := [(2, .int (0 : Int32)), (0, .ref (K 0)), (1, .int a1)]) X dX0_often_24 rfl (by decide) rfl ?_
    refine tw_aload_n X dX0_often_25 rfl 1 rfl ?_
    refine kgX0_47_0 X  dX0_often_26 ?_
    refine kgX0_492_3 X  dX0_often_29 ?_
    refine tw_istore_n (lv' := [(3, .int (g2 40 4)), (2, .int (0 : Int32)), (0, .ref (K 0)), (1, .int a1)]) X dX0_often_32 rfl (by decide) rfl ?_
    refine tw_iconst (v := 0) X dX0_often_33 rfl ?_
    refine tw_istore (lv' := [(4, .int (0 : Int32)), (3, .int (g2 40 4)), (2, .int (0 : Int32)), (0, .ref (K 0)), (1, .int a1)]) X dX0_often_34 (by decide) rfl ?_
    refine bj_walk (P := un2 fun j4a j4b => TW p l e (rom 230 5298) s m args below meth c (MQ below (QI D vwCl A (kW K δ sr z.2.2 dy) z.1 z.2.1) args s 0 0 A) D vwCl A (kW K δ sr (upR ρ 0 2 (ρ 0 0)) dy) 6 0 0 j4a 90 [(0, .ref (K 0)), (2, .int j4b)] []) hf ?_ ?_
    · rintro ⟨j4a, j4b⟩ hf
      dsimp only [un2] at hf ⊢
      refine tw_iload_n X dX0_often_90 rfl 1 rfl ?_
      refine tw_istore (lv' := [(4, .int j4b), (0, .ref (K 0)), (2, .int j4b)]) X dX0_often_91 (by decide) rfl ?_
      refine tw_aload_n X dX0_often_93 rfl 1 rfl ?_
      refine kgX0_47_0 X  dX0_often_94 ?_
      refine tw_aload_n X dX0_often_97 rfl 1 rfl ?_
      refine kgX0_54_0 X  dX0_often_98 ?_
      obtain ⟨g6, hg6, hf⟩ := bnd hf
      refine tw_callVv (As := [.ref (K 5)]) (st := []) X (kC_X3_become_3_5 rfl hg6) kGX0_502 kI_X3_become ⟨Nat.le_of_ble_eq_true rfl, Nat.le_of_ble_eq_true rfl⟩ ⟨Nat.zero_le _, Nat.zero_le _⟩ 3 rfl rfl rfl rfl (Nat.le_of_ble_eq_true rfl) dX0_often_101 ?_
      refine tw_iload X dX0_often_104 0 rfl ?_
      obtain rfl := Option.some.inj hf
      exact tw_iret X hr rfl rfl dX0_often_106
    · intro zz20 hf hk5
      refine tw_sub [3, 4, 2, 1, 0] (lv' := [(0, .ref (K 0)), (1, .int a1), (2, .int (0 : Int32)), (3, .int (g2 40 4)), (4, .int (0 : Int32))]) rfl ?_
      refine it_walk (P := un4 fun s7a s7b s7c s7d => TW p l e (rom 230 5298) s m args below meth c (MQ below (QI D vwCl A (kW K δ sr z.2.2 dy) z.1 z.2.1) args s 0 0 A) D vwCl A (kW K δ sr (upR ρ 0 2 (ρ 0 0)) dy) 6 0 0 s7a 36 [(0, .ref (K 0)), (1, .int a1), (2, .int s7b), (3, .int s7c), (4, .int s7d)] []) hf ?_
      rintro ⟨s7a, s7b, s7c, s7d⟩ zz19 hf hl8
      dsimp only [un4] at hf ⊢
      refine tw_iload X dX0_often_36 4 rfl ?_
      refine tw_iload_n X dX0_often_38 rfl 1 rfl ?_
      refine tw_icmp_ge (tgt := 90) X dX0_often_39 rfl hf (fun q18 hf => ?_) (fun q18 hf => ?_)
      · clear q18
        have hf9 := leafR hf hl8
        refine tw_sub [0, 2] (lv' := [(0, .ref (K 0)), (2, .int s7b)]) rfl ?_
        have hL := hk5 _ hf9
        exact hL
      · clear q18
        refine tw_aload_n X dX0_often_42 rfl 0 rfl ?_
        refine kgX0_47_0 X  dX0_often_43 ?_
        refine tw_aload_n X dX0_often_46 rfl 0 rfl ?_
        refine kgX0_54_0 X  dX0_often_47 ?_
        obtain ⟨g10, hg10, hf⟩ := bnd hf
        refine tw_callVv (As := [.ref (K 5)]) (st := []) X (kC_X3_become_3_5 rfl hg10) kGX0_502 kI_X3_become ⟨Nat.le_of_ble_eq_true rfl, Nat.le_of_ble_eq_true rfl⟩ ⟨Nat.zero_le _, Nat.zero_le _⟩ 3 rfl rfl rfl rfl (Nat.le_of_ble_eq_true rfl) dX0_often_50 ?_
        refine tw_aload_n X dX0_often_53 rfl 0 rfl ?_
        refine kgX0_47_0 X  dX0_often_54 ?_
        refine tw_iload_n X dX0_often_57 rfl 3 rfl ?_
        obtain ⟨g11, hg11, hf⟩ := bnd hf
        refine kpX0_492_3 X hg11 dX0_often_58 ?_
        refine tw_iload_n X dX0_often_61 rfl 2 rfl ?_
        refine tw_aload_n X dX0_often_62 rfl 0 rfl ?_
        obtain ⟨⟨y12a, y12b⟩, hy12, hf⟩ := bnd hf
        dsimp only [un2] at hf
        refine tw_callVz (As := []) (st := [.int s7b]) X (kC_runs hE3 hy12) kGX0_506 kI_X0_runs ⟨Nat.le_of_ble_eq_true rfl, Nat.le_of_ble_eq_true rfl⟩ ⟨Nat.zero_le _, Nat.zero_le _⟩ 0 rfl rfl rfl rfl (Nat.le_of_ble_eq_true rfl) dX0_often_63 ?_
        intro hb13
        refine bj_walk (P := fun j14 : Int32 => TW p l e (rom 230 5298) s m args below meth c (MQ below (QI D vwCl A (kW K δ sr z.2.2 dy) z.1 z.2.1) args s 0 0 A) D vwCl A (kW K δ sr (upR ρ 0 2 (ρ 0 0)) dy) 6 0 0 y12b 74 [(0, .ref (K 0)), (1, .int a1), (4, .int s7d)] [.int j14, .int s7b]) hf ?_ ?_
        · intro j14 hf
          refine tw_iadd X dX0_often_74 ?_
          refine tw_istore_n (lv' := [(2, .int (s7b + j14)), (0, .ref (K 0)), (1, .int a1), (4, .int s7d)]) X dX0_often_75 rfl (by decide) rfl ?_
          refine tw_aload_n X dX0_often_76 rfl 1 rfl ?_
          refine kgX0_47_0 X  dX0_often_77 ?_
          refine kgX0_492_3 X  dX0_often_80 ?_
          refine tw_istore_n (lv' := [(3, .int (y12b 40 4)), (2, .int (s7b + j14)), (0, .ref (K 0)), (1, .int a1), (4, .int s7d)]) X dX0_often_83 rfl (by decide) rfl ?_
          refine tw_iinc (q := 4) (v := (s7d + (1 : Int32))) (lv' := [(4, .int (s7d + (1 : Int32))), (3, .int (y12b 40 4)), (2, .int (s7b + j14)), (0, .ref (K 0)), (1, .int a1)]) X dX0_often_84 rfl rfl (by decide) rfl ?_
          refine tw_goto (tgt := 36) X dX0_often_87 rfl ?_
          refine tw_sub [3, 4, 2, 1, 0] (lv' := [(0, .ref (K 0)), (1, .int a1), (2, .int (s7b + j14)), (3, .int (y12b 40 4)), (4, .int (s7d + (1 : Int32)))]) rfl ?_
          have hL := leafL hf hl8
          exact hL
        · intro zz17 hf hk15
          refine tw_if_eq (tgt := 73) X dX0_often_66 rfl hf (fun q16 hf => ?_) (fun q16 hf => ?_)
          · clear q16
            refine tw_iconst (v := 0) X dX0_often_73 rfl ?_
            refine tw_sub [0, 1, 4] (lv' := [(0, .ref (K 0)), (1, .int a1), (4, .int s7d)]) rfl ?_
            have hL := hk15 _ hf
            exact hL
          · clear q16
            refine tw_iconst (v := 1) X dX0_often_69 rfl ?_
            refine tw_goto (tgt := 74) X dX0_often_70 rfl ?_
            refine tw_sub [0, 1, 4] (lv' := [(0, .ref (K 0)), (1, .int a1), (4, .int s7d)]) rfl ?_
            have hL := hk15 _ hf
            exact hL
noncomputable def kF_prove (E : EE) (ρ : Rf) (g : St) : Option (Int32 × St × Rf) :=
  (kF_fewestOf E g (6 : Int32)).bind (un2 fun y1a y1b =>
  if 0 ≤ y1a then
    (kF_X3_become_5_3 y1b).bind fun g2 =>
    (pf g2 0 28 y1a).bind fun g4 =>
    Option.bind (α := St) (β := Int32 × St × Rf)
      (iter (L := St × Int32) (T := St) (un2 fun s8a s8b => 
        if y1a ≤ s8b then
          some (.inr s8a)
        else
          (rd (s8a 17) 6 s8b).bind fun x11 =>
          (wr s8a 28 18 ((3 : Int32) * s8b) x11).bind fun g12 =>
          (rd (g12 17) 6 s8b).bind fun x13 =>
          (kF_carry E g12 x13).bind (un2 fun y14a y14b =>
          Option.bind (α := Int32) (β := ((St × Int32) ⊕ (St)))
            (if 0 ≤ y14a then
              (kF_X3_purse y14b).bind fun x20 =>
              some x20
            else
              some (0 : Int32))
            (fun j15 => (wr y14b 28 18 (((3 : Int32) * s8b) + (1 : Int32)) j15).bind fun g17 =>
            (kF_X3_whole g17).bind fun x18 =>
            (wr g17 28 18 (((3 : Int32) * s8b) + (2 : Int32)) x18).bind fun g19 =>
            some (.inl (g19, (s8b + (1 : Int32))))))) (g4, (0 : Int32)))
      (fun j5 => (kF_X3_become_3_5 j5).bind fun g7 =>
      some (y1a, g7, (upR ρ 0 2 (ρ 0 0))))
  else
    some ((-3 : Int32), y1b, ρ))
set_option maxHeartbeats 4000000 in
theorem kC_prove {l : Launch} {D : va_G} {A : Nat → Prop} {K : Nat → Nat} {δ : Nat → ClassId} {sr ρ : Rf} {dy : va_W} {E : EE} (hE : EOK δ ρ dy E) {g : St} {z : Int32 × St × Rf} (hf : kF_prove E ρ g = some z) : Ct l yX0_prove cX0_prove 4 (some .int) 236 5466 D vwCl (kT δ) A (kW K δ sr ρ dy) [.ref (K 0)] g (QI D vwCl A (kW K δ sr z.2.2 dy) z.1 z.2.1) := by
  unfold kF_prove at hf
  refine ct_intro (own := RX0) (lv0 := [(0, .ref (K 0))]) (by decide) rfl (Nat.le_of_ble_eq_true rfl) rfl ?_
  intro p e s m args below meth c X hr
  refine tw_aload_n X dX0_prove_0 rfl 0 rfl ?_
  refine tw_bipush (v := 6) X dX0_prove_1 rfl ?_
  obtain ⟨⟨y1a, y1b⟩, hy1, hf⟩ := bnd hf
  dsimp only [un2] at hf
  refine tw_callVi (As := [.int (6 : Int32)]) (st := []) X (kC_fewestOf hE hy1) kGX0_423 kI_X0_fewestOf ⟨Nat.le_of_ble_eq_true rfl, Nat.le_of_ble_eq_true rfl⟩ ⟨Nat.zero_le _, Nat.zero_le _⟩ 0 rfl rfl rfl rfl (Nat.le_of_ble_eq_true rfl) dX0_prove_3 ?_
  refine tw_istore_n (lv' := [(1, .int y1a), (0, .ref (K 0))]) X dX0_prove_6 rfl (by decide) rfl ?_
  refine tw_iload_n X dX0_prove_7 rfl 0 rfl ?_
  refine tw_if_ge (tgt := 14) X dX0_prove_8 rfl hf (fun q26 hf => ?_) (fun q26 hf => ?_)
  · clear q26
    refine tw_aload_n X dX0_prove_14 rfl 1 rfl ?_
    refine kgX0_54_0 X  dX0_prove_15 ?_
    refine tw_aload_n X dX0_prove_18 rfl 1 rfl ?_
    refine kgX0_47_0 X  dX0_prove_19 ?_
    obtain ⟨g2, hg2, hf⟩ := bnd hf
    refine tw_callVv (As := [.ref (K 3)]) (st := []) X (kC_X3_become_5_3 hg2) kGX0_502 kI_X3_become ⟨Nat.le_of_ble_eq_true rfl, Nat.le_of_ble_eq_true rfl⟩ ⟨Nat.zero_le _, Nat.zero_le _⟩ 5 rfl rfl rfl rfl (Nat.le_of_ble_eq_true rfl) dX0_prove_22 ?_
    have hE3 : EOK δ (upR ρ 0 2 (ρ 0 0)) dy E := hE
    refine tw_aload_n X dX0_prove_25 rfl 1 rfl ?_
    refine tw_iload_n X dX0_prove_26 rfl 0 rfl ?_
    obtain ⟨g4, hg4, hf⟩ := bnd hf
    refine kpX0_509_0 X hg4 dX0_prove_27 ?_
    refine tw_iconst (v := 0) X dX0_prove_30 rfl ?_
    refine tw_istore_n (lv' := [(2, .int (0 : Int32)), (1, .int y1a), (0, .ref (K 0))]) X dX0_prove_31 rfl (by decide) rfl ?_
    refine bj_walk (P := fun j5 : St => TW p l e (rom 236 5466) s m args below meth c (MQ below (QI D vwCl A (kW K δ sr z.2.2 dy) z.1 z.2.1) args s 0 0 A) D vwCl A (kW K δ sr (upR ρ 0 2 (ρ 0 0)) dy) 4 0 0 j5 110 [(0, .ref (K 0)), (1, .int y1a)] []) hf ?_ ?_
    · intro j5 hf
      refine tw_aload_n X dX0_prove_110 rfl 0 rfl ?_
      refine kgX0_47_0 X  dX0_prove_111 ?_
      refine tw_aload_n X dX0_prove_114 rfl 0 rfl ?_
      refine kgX0_54_0 X  dX0_prove_115 ?_
      obtain ⟨g7, hg7, hf⟩ := bnd hf
      refine tw_callVv (As := [.ref (K 5)]) (st := []) X (kC_X3_become_3_5 rfl hg7) kGX0_502 kI_X3_become ⟨Nat.le_of_ble_eq_true rfl, Nat.le_of_ble_eq_true rfl⟩ ⟨Nat.zero_le _, Nat.zero_le _⟩ 3 rfl rfl rfl rfl (Nat.le_of_ble_eq_true rfl) dX0_prove_118 ?_
      refine tw_iload_n X dX0_prove_121 rfl 1 rfl ?_
      obtain rfl := Option.some.inj hf
      exact tw_iret X hr rfl rfl dX0_prove_122
    · intro zz25 hf hk6
      refine tw_sub [2, 1, 0] (lv' := [(0, .ref (K 0)), (1, .int y1a), (2, .int (0 : Int32))]) rfl ?_
      refine it_walk (P := un2 fun s8a s8b => TW p l e (rom 236 5466) s m args below meth c (MQ below (QI D vwCl A (kW K δ sr z.2.2 dy) z.1 z.2.1) args s 0 0 A) D vwCl A (kW K δ sr (upR ρ 0 2 (ρ 0 0)) dy) 4 0 0 s8a 32 [(0, .ref (K 0)), (1, .int y1a), (2, .int s8b)] []) hf ?_
      rintro ⟨s8a, s8b⟩ zz24 hf hl9
      dsimp only [un2] at hf ⊢
      refine tw_iload_n X dX0_prove_32 rfl 2 rfl ?_
      refine tw_iload_n X dX0_prove_33 rfl 1 rfl ?_
      refine tw_icmp_ge (tgt := 110) X dX0_prove_34 rfl hf (fun q23 hf => ?_) (fun q23 hf => ?_)
      · clear q23
        have hf10 := leafR hf hl9
        refine tw_sub [0, 1] (lv' := [(0, .ref (K 0)), (1, .int y1a)]) rfl ?_
        have hL := hk6 _ hf10
        exact hL
      · clear q23
        refine tw_aload_n X dX0_prove_37 rfl 0 rfl ?_
        refine kgX0_127_0 X  dX0_prove_38 ?_
        refine tw_iconst (v := 3) X dX0_prove_41 rfl ?_
        refine tw_iload_n X dX0_prove_42 rfl 2 rfl ?_
        refine tw_imul X dX0_prove_43 ?_
        refine tw_aload_n X dX0_prove_44 rfl 0 rfl ?_
        refine kgX0_115_0 X  dX0_prove_45 ?_
        refine tw_iload_n X dX0_prove_48 rfl 2 rfl ?_
        obtain ⟨x11, hx11, hf⟩ := bnd hf
        refine klX0_17 X hx11 dX0_prove_49 ?_
        obtain ⟨g12, hg12, hf⟩ := bnd hf
        refine ksX0_28 X hg12 dX0_prove_50 ?_
        refine tw_aload_n X dX0_prove_51 rfl 0 rfl ?_
        refine tw_aload_n X dX0_prove_52 rfl 0 rfl ?_
        refine kgX0_115_0 X  dX0_prove_53 ?_
        refine tw_iload_n X dX0_prove_56 rfl 2 rfl ?_
        obtain ⟨x13, hx13, hf⟩ := bnd hf
        refine klX0_17 X hx13 dX0_prove_57 ?_
        obtain ⟨⟨y14a, y14b⟩, hy14, hf⟩ := bnd hf
        dsimp only [un2] at hf
        refine tw_callVi (As := [.int x13]) (st := []) X (kC_carry hE3 hy14) kGX0_392 kI_X0_carry ⟨Nat.le_of_ble_eq_true rfl, Nat.le_of_ble_eq_true rfl⟩ ⟨Nat.zero_le _, Nat.zero_le _⟩ 0 rfl rfl rfl rfl (Nat.le_of_ble_eq_true rfl) dX0_prove_58 ?_
        refine tw_istore_n (lv' := [(3, .int y14a), (0, .ref (K 0)), (1, .int y1a), (2, .int s8b)]) X dX0_prove_61 rfl (by decide) rfl ?_
        refine tw_aload_n X dX0_prove_62 rfl 1 rfl ?_
        refine kgX0_127_0 X  dX0_prove_63 ?_
        refine tw_iconst (v := 3) X dX0_prove_66 rfl ?_
        refine tw_iload_n X dX0_prove_67 rfl 3 rfl ?_
        refine tw_imul X dX0_prove_68 ?_
        refine tw_iconst (v := 1) X dX0_prove_69 rfl ?_
        refine tw_iadd X dX0_prove_70 ?_
        refine tw_iload_n X dX0_prove_71 rfl 0 rfl ?_
        refine bj_walk (P := fun j15 : Int32 => TW p l e (rom 236 5466) s m args below meth c (MQ below (QI D vwCl A (kW K δ sr z.2.2 dy) z.1 z.2.1) args s 0 0 A) D vwCl A (kW K δ sr (upR ρ 0 2 (ρ 0 0)) dy) 4 0 0 y14b 86 [(0, .ref (K 0)), (1, .int y1a), (2, .int s8b)] [.int j15, .int (((3 : Int32) * s8b) + (1 : Int32)), .ref (K 28)]) hf ?_ ?_
        · intro j15 hf
          obtain ⟨g17, hg17, hf⟩ := bnd hf
          refine ksX0_28 X hg17 dX0_prove_86 ?_
          refine tw_aload_n X dX0_prove_87 rfl 0 rfl ?_
          refine kgX0_127_0 X  dX0_prove_88 ?_
          refine tw_iconst (v := 3) X dX0_prove_91 rfl ?_
          refine tw_iload_n X dX0_prove_92 rfl 2 rfl ?_
          refine tw_imul X dX0_prove_93 ?_
          refine tw_iconst (v := 2) X dX0_prove_94 rfl ?_
          refine tw_iadd X dX0_prove_95 ?_
          refine tw_aload_n X dX0_prove_96 rfl 0 rfl ?_
          refine kgX0_47_0 X  dX0_prove_97 ?_
          obtain ⟨x18, hx18, hf⟩ := bnd hf
          refine tw_callVi (As := []) (st := [.int (((3 : Int32) * s8b) + (2 : Int32)), .ref (K 28)]) X (kC_X3_whole hx18) kGX0_211 kI_X3_whole ⟨Nat.le_of_ble_eq_true rfl, Nat.le_of_ble_eq_true rfl⟩ ⟨Nat.zero_le _, Nat.zero_le _⟩ 3 rfl rfl rfl rfl (Nat.le_of_ble_eq_true rfl) dX0_prove_100 ?_
          obtain ⟨g19, hg19, hf⟩ := bnd hf
          refine ksX0_28 X hg19 dX0_prove_103 ?_
          refine tw_iinc (q := 2) (v := (s8b + (1 : Int32))) (lv' := [(2, .int (s8b + (1 : Int32))), (0, .ref (K 0)), (1, .int y1a)]) X dX0_prove_104 rfl rfl (by decide) rfl ?_
          refine tw_goto (tgt := 32) X dX0_prove_107 rfl ?_
          refine tw_sub [1, 2, 0] (lv' := [(0, .ref (K 0)), (1, .int y1a), (2, .int (s8b + (1 : Int32)))]) rfl ?_
          have hL := leafL hf hl9
          exact hL
        · intro zz22 hf hk16
          refine tw_if_ge (tgt := 79) X dX0_prove_72 rfl hf (fun q21 hf => ?_) (fun q21 hf => ?_)
          · clear q21
            refine tw_aload_n X dX0_prove_79 rfl 1 rfl ?_
            refine kgX0_47_0 X  dX0_prove_80 ?_
            obtain ⟨x20, hx20, hf⟩ := bnd hf
            refine tw_callVi (As := []) (st := [.int (((3 : Int32) * s8b) + (1 : Int32)), .ref (K 28)]) X (kC_X3_purse hx20) kGX0_214 kI_X3_purse ⟨Nat.le_of_ble_eq_true rfl, Nat.le_of_ble_eq_true rfl⟩ ⟨Nat.zero_le _, Nat.zero_le _⟩ 3 rfl rfl rfl rfl (Nat.le_of_ble_eq_true rfl) dX0_prove_83 ?_
            refine tw_sub [1, 2, 3] (lv' := [(0, .ref (K 0)), (1, .int y1a), (2, .int s8b)]) rfl ?_
            have hL := hk16 _ hf
            exact hL
          · clear q21
            refine tw_iconst (v := 0) X dX0_prove_75 rfl ?_
            refine tw_goto (tgt := 86) X dX0_prove_76 rfl ?_
            refine tw_sub [1, 2, 3] (lv' := [(0, .ref (K 0)), (1, .int y1a), (2, .int s8b)]) rfl ?_
            have hL := hk16 _ hf
            exact hL
  · clear q26
    refine tw_bipush (v := -3) X dX0_prove_11 rfl ?_
    obtain rfl := Option.some.inj hf
    exact tw_iret X hr rfl rfl dX0_prove_13
noncomputable def kF_isRow (g : St) (a1 : Int32) (a2 : Int32) : Option (Int32) :=
  if (kF_isIn a1 (0 : Int32) ((g 0 28) - (1 : Int32))) = 0 then
    some (0 : Int32)
  else
    if (kF_isIn a2 (0 : Int32) (2 : Int32)) = 0 then
      some (0 : Int32)
    else
      some (1 : Int32)
set_option maxHeartbeats 4000000 in
theorem kC_isRow {l : Launch} {D : va_G} {A : Nat → Prop} {K : Nat → Nat} {δ : Nat → ClassId} {sr ρ : Rf} {dy : va_W} {g : St} {a1 : Int32} {a2 : Int32} {z : Int32} (hf : kF_isRow g a1 a2 = some z) : Ct l yX0_isRow cX0_isRow 3 (some .boolean) 1 22 D vwCl (kT δ) A (kW K δ sr ρ dy) [.ref (K 0), .int a1, .int a2] g (QZ D vwCl A (kW K δ sr ρ dy) z g) := by
  unfold kF_isRow at hf
  refine ct_intro (own := RX0) (lv0 := [(0, .ref (K 0)), (1, .int a1), (2, .int a2)]) (by decide) rfl (Nat.le_of_ble_eq_true rfl) rfl ?_
  intro p e s m args below meth c X hr
  refine tw_iload_n X dX0_isRow_0 rfl 1 rfl ?_
  refine tw_iconst (v := 0) X dX0_isRow_1 rfl ?_
  refine tw_aload_n X dX0_isRow_2 rfl 0 rfl ?_
  refine kgX0_509_0 X  dX0_isRow_3 ?_
  refine tw_iconst (v := 1) X dX0_isRow_6 rfl ?_
  refine tw_isub X dX0_isRow_7 ?_
  refine tw_callSz (As := [.int a1, .int (0 : Int32), .int ((g 0 28) - (1 : Int32))]) (st := []) X (kC_isIn (g := g) a1 (0 : Int32) ((g 0 28) - (1 : Int32))) kGX0_149 kI_X0_isIn ⟨Nat.le_of_ble_eq_true rfl, Nat.le_of_ble_eq_true rfl⟩ ⟨Nat.zero_le _, Nat.zero_le _⟩ rfl rfl (Nat.le_of_ble_eq_true rfl) dX0_isRow_8 ?_
  intro hb1
  refine tw_if_eq (tgt := 27) X dX0_isRow_11 rfl hf (fun q4 hf => ?_) (fun q4 hf => ?_)
  · clear q4
    refine tw_iconst (v := 0) X dX0_isRow_27 rfl ?_
    exact tw_zret X hr (Or.inl rfl) (Option.some.inj hf) rfl dX0_isRow_28
  · clear q4
    refine tw_iload_n X dX0_isRow_14 rfl 2 rfl ?_
    refine tw_iconst (v := 0) X dX0_isRow_15 rfl ?_
    refine tw_iconst (v := 2) X dX0_isRow_16 rfl ?_
    refine tw_callSz (As := [.int a2, .int (0 : Int32), .int (2 : Int32)]) (st := []) X (kC_isIn (g := g) a2 (0 : Int32) (2 : Int32)) kGX0_149 kI_X0_isIn ⟨Nat.le_of_ble_eq_true rfl, Nat.le_of_ble_eq_true rfl⟩ ⟨Nat.zero_le _, Nat.zero_le _⟩ rfl rfl (Nat.le_of_ble_eq_true rfl) dX0_isRow_17 ?_
    intro hb2
    refine tw_if_eq (tgt := 27) X dX0_isRow_20 rfl hf (fun q3 hf => ?_) (fun q3 hf => ?_)
    · clear q3
      refine tw_iconst (v := 0) X dX0_isRow_27 rfl ?_
      exact tw_zret X hr (Or.inl rfl) (Option.some.inj hf) rfl dX0_isRow_28
    · clear q3
      refine tw_iconst (v := 1) X dX0_isRow_23 rfl ?_
      refine tw_goto (tgt := 28) X dX0_isRow_24 rfl ?_
      exact tw_zret X hr (Or.inr rfl) (Option.some.inj hf) rfl dX0_isRow_28
noncomputable def kF_row (g : St) (a1 : Int32) (a2 : Int32) : Option (Int32) :=
  (kF_isRow g a1 a2).bind fun x1 =>
  if x1 = 0 then
    some (-9 : Int32)
  else
    (rd (g 28) 18 (((3 : Int32) * a1) + a2)).bind fun x3 =>
    some x3
set_option maxHeartbeats 4000000 in
theorem kC_row {l : Launch} {D : va_G} {A : Nat → Prop} {K : Nat → Nat} {δ : Nat → ClassId} {sr ρ : Rf} {dy : va_W} {g : St} {a1 : Int32} {a2 : Int32} {z : Int32} (hf : kF_row g a1 a2 = some z) : Ct l yX0_row cX0_row 3 (some .int) 2 44 D vwCl (kT δ) A (kW K δ sr ρ dy) [.ref (K 0), .int a1, .int a2] g (QI D vwCl A (kW K δ sr ρ dy) z g) := by
  unfold kF_row at hf
  refine ct_intro (own := RX0) (lv0 := [(0, .ref (K 0)), (1, .int a1), (2, .int a2)]) (by decide) rfl (Nat.le_of_ble_eq_true rfl) rfl ?_
  intro p e s m args below meth c X hr
  refine tw_aload_n X dX0_row_0 rfl 0 rfl ?_
  refine tw_iload_n X dX0_row_1 rfl 1 rfl ?_
  refine tw_iload_n X dX0_row_2 rfl 2 rfl ?_
  obtain ⟨x1, hx1, hf⟩ := bnd hf
  refine tw_callVz (As := [.int a1, .int a2]) (st := []) X (kC_isRow hx1) kGX0_512 kI_X0_isRow ⟨Nat.le_of_ble_eq_true rfl, Nat.le_of_ble_eq_true rfl⟩ ⟨Nat.zero_le _, Nat.zero_le _⟩ 0 rfl rfl rfl rfl (Nat.le_of_ble_eq_true rfl) dX0_row_3 ?_
  intro hb2
  refine tw_if_eq (tgt := 22) X dX0_row_6 rfl hf (fun q4 hf => ?_) (fun q4 hf => ?_)
  · clear q4
    refine tw_bipush (v := -9) X dX0_row_22 rfl ?_
    exact tw_iret X hr (Option.some.inj hf) rfl dX0_row_24
  · clear q4
    refine tw_aload_n X dX0_row_9 rfl 0 rfl ?_
    refine kgX0_127_0 X  dX0_row_10 ?_
    refine tw_iconst (v := 3) X dX0_row_13 rfl ?_
    refine tw_iload_n X dX0_row_14 rfl 1 rfl ?_
    refine tw_imul X dX0_row_15 ?_
    refine tw_iload_n X dX0_row_16 rfl 2 rfl ?_
    refine tw_iadd X dX0_row_17 ?_
    obtain ⟨x3, hx3, hf⟩ := bnd hf
    refine klX0_28 X hx3 dX0_row_18 ?_
    refine tw_goto (tgt := 24) X dX0_row_19 rfl ?_
    exact tw_iret X hr (Option.some.inj hf) rfl dX0_row_24
noncomputable def kF_alterRow (g : St) (a1 : Int32) (a2 : Int32) (a3 : Int32) : Option (Int32 × St) :=
  (kF_isRow g a1 a2).bind fun x1 =>
  if x1 = 0 then
    some ((-9 : Int32), g)
  else
    (rd (g 28) 18 (((3 : Int32) * a1) + a2)).bind fun x3 =>
    (wr g 28 18 (((3 : Int32) * a1) + a2) a3).bind fun g4 =>
    some (x3, g4)
set_option maxHeartbeats 4000000 in
theorem kC_alterRow {l : Launch} {D : va_G} {A : Nat → Prop} {K : Nat → Nat} {δ : Nat → ClassId} {sr ρ : Rf} {dy : va_W} {g : St} {a1 : Int32} {a2 : Int32} {a3 : Int32} {z : Int32 × St} (hf : kF_alterRow g a1 a2 a3 = some z) : Ct l yX0_alterRow cX0_alterRow 5 (some .int) 2 44 D vwCl (kT δ) A (kW K δ sr ρ dy) [.ref (K 0), .int a1, .int a2, .int a3] g (QI D vwCl A (kW K δ sr ρ dy) z.1 z.2) := by
  unfold kF_alterRow at hf
  refine ct_intro (own := RX0) (lv0 := [(0, .ref (K 0)), (1, .int a1), (2, .int a2), (3, .int a3)]) (by decide) rfl (Nat.le_of_ble_eq_true rfl) rfl ?_
  intro p e s m args below meth c X hr
  refine tw_aload_n X dX0_alterRow_0 rfl 0 rfl ?_
  refine tw_iload_n X dX0_alterRow_1 rfl 1 rfl ?_
  refine tw_iload_n X dX0_alterRow_2 rfl 2 rfl ?_
  obtain ⟨x1, hx1, hf⟩ := bnd hf
  refine tw_callVz (As := [.int a1, .int a2]) (st := []) X (kC_isRow hx1) kGX0_512 kI_X0_isRow ⟨Nat.le_of_ble_eq_true rfl, Nat.le_of_ble_eq_true rfl⟩ ⟨Nat.zero_le _, Nat.zero_le _⟩ 0 rfl rfl rfl rfl (Nat.le_of_ble_eq_true rfl) dX0_alterRow_3 ?_
  intro hb2
  refine tw_if_ne (tgt := 12) X dX0_alterRow_6 rfl hf (fun q5 hf => ?_) (fun q5 hf => ?_)
  · clear q5
    refine tw_bipush (v := -9) X dX0_alterRow_9 rfl ?_
    exact tw_iret X hr (prj1 hf) (prj2 hf) dX0_alterRow_11
  · clear q5
    refine tw_aload_n X dX0_alterRow_12 rfl 0 rfl ?_
    refine kgX0_127_0 X  dX0_alterRow_13 ?_
    refine tw_iconst (v := 3) X dX0_alterRow_16 rfl ?_
    refine tw_iload_n X dX0_alterRow_17 rfl 1 rfl ?_
    refine tw_imul X dX0_alterRow_18 ?_
    refine tw_iload_n X dX0_alterRow_19 rfl 2 rfl ?_
    refine tw_iadd X dX0_alterRow_20 ?_
    obtain ⟨x3, hx3, hf⟩ := bnd hf
    refine klX0_28 X hx3 dX0_alterRow_21 ?_
    refine tw_istore (lv' := [(4, .int x3), (0, .ref (K 0)), (1, .int a1), (2, .int a2), (3, .int a3)]) X dX0_alterRow_22 (by decide) rfl ?_
    refine tw_aload_n X dX0_alterRow_24 rfl 1 rfl ?_
    refine kgX0_127_0 X  dX0_alterRow_25 ?_
    refine tw_iconst (v := 3) X dX0_alterRow_28 rfl ?_
    refine tw_iload_n X dX0_alterRow_29 rfl 2 rfl ?_
    refine tw_imul X dX0_alterRow_30 ?_
    refine tw_iload_n X dX0_alterRow_31 rfl 3 rfl ?_
    refine tw_iadd X dX0_alterRow_32 ?_
    refine tw_iload_n X dX0_alterRow_33 rfl 4 rfl ?_
    obtain ⟨g4, hg4, hf⟩ := bnd hf
    refine ksX0_28 X hg4 dX0_alterRow_34 ?_
    refine tw_iload X dX0_alterRow_35 0 rfl ?_
    exact tw_iret X hr (prj1 hf) (prj2 hf) dX0_alterRow_37
noncomputable def kF_judge (E : EE) (g : St) : Option (Int32 × St) :=
  (kF_X3_become_5_3 g).bind fun g1 =>
  Option.bind (α := St × Int32) (β := Int32 × St)
    (jn (S := St × Int32) (T := St × Int32)
      (jn (S := St × Int32) (T := ((St × Int32) ⊕ (St × Int32)))
        (iter (L := St × Int32 × Int32) (T := ((St × Int32) ⊕ (((St × Int32) ⊕ (St × Int32))))) (un3 fun s11a s11b s11c => 
          if (s11a 0 28) ≤ s11c then
            some (.inr (.inr (.inr (s11a, s11b))))
          else
            (rd (s11a 28) 18 ((3 : Int32) * s11c)).bind fun x16 =>
            (kF_isChange s11a x16).bind fun x17 =>
            if x17 = 0 then
              some (.inr (.inr (.inr (s11a, (s11c + (1 : Int32))))))
            else
              (kF_can E s11a x16).bind (un2 fun y22a y22b =>
              if y22a = 0 then
                some (.inr (.inl (y22b, (s11c + (1 : Int32)))))
              else
                (kF_carry E y22b x16).bind (un2 fun y25a y25b =>
                if y25a < 0 then
                  some (.inr (.inr (.inr (y25b, (s11c + (1 : Int32))))))
                else
                  (rd (y25b 28) 18 (((3 : Int32) * s11c) + (1 : Int32))).bind fun x29 =>
                  (kF_X3_purse y25b).bind fun x30 =>
                  if x29 = x30 then
                    (rd (y25b 28) 18 (((3 : Int32) * s11c) + (2 : Int32))).bind fun x31 =>
                    (kF_X3_whole y25b).bind fun x32 =>
                    if x31 = x32 then
                      if (s11c + (1 : Int32)) < (y25b 0 28) then
                        some (.inl (y25b, (0 : Int32), (s11c + (1 : Int32))))
                      else
                        (kF_isDone y25b).bind fun x33 =>
                        if x33 = 0 then
                          some (.inl (y25b, (s11c + (1 : Int32)), (s11c + (1 : Int32))))
                        else
                          some (.inl (y25b, (0 : Int32), (s11c + (1 : Int32))))
                    else
                      some (.inr (.inr (.inl (y25b, (s11c + (1 : Int32))))))
                  else
                    some (.inr (.inr (.inr (y25b, (s11c + (1 : Int32))))))))) (g1, (0 : Int32), (0 : Int32)))
        (un2 fun j8a j8b => some (.inr (j8a, j8b))))
      (un2 fun j6a j6b => some (j6a, j6b)))
    (un2 fun j3a j3b => (kF_X3_become_3_5 j3a).bind fun g5 =>
    some (j3b, g5))
set_option maxHeartbeats 4000000 in
theorem kC_judge {l : Launch} {D : va_G} {A : Nat → Prop} {K : Nat → Nat} {δ : Nat → ClassId} {sr ρ : Rf} {dy : va_W} {E : EE} (hE : EOK δ ρ dy E) {g : St} {z : Int32 × St} (hf : kF_judge E g = some z) : CtW l yX0_judge cX0_judge 6 (some .int) [((13 : Nat), (137 : Nat), (150 : Nat), (0 : Nat)), ((150 : Nat), (152 : Nat), (150 : Nat), (0 : Nat))] 226 5210 D vwCl (kT δ) A (kW K δ sr ρ dy) [.ref (K 0)] g (QI D vwCl A (kW K δ sr (upR ρ 0 2 (ρ 0 0)) dy) z.1 z.2) := by
  unfold kF_judge at hf
  refine ctW_intro (own := RX0) (lv0 := [(0, .ref (K 0))]) (by decide) rfl (Nat.le_of_ble_eq_true rfl) rfl ?_
  intro p e s m args below meth c X hr
  refine tw_aload_n X dX0_judge_0 rfl 0 rfl ?_
  refine kgX0_54_0 X  dX0_judge_1 ?_
  refine tw_aload_n X dX0_judge_4 rfl 0 rfl ?_
  refine kgX0_47_0 X  dX0_judge_5 ?_
  obtain ⟨g1, hg1, hf⟩ := bnd hf
  refine tw_callVv (As := [.ref (K 3)]) (st := []) X (kC_X3_become_5_3 hg1) kGX0_502 kI_X3_become ⟨Nat.le_of_ble_eq_true rfl, Nat.le_of_ble_eq_true rfl⟩ ⟨Nat.zero_le _, Nat.zero_le _⟩ 5 rfl rfl rfl rfl (Nat.le_of_ble_eq_true rfl) dX0_judge_8 ?_
  have hE2 : EOK δ (upR ρ 0 2 (ρ 0 0)) dy E := hE
  refine tw_iconst (v := 0) X dX0_judge_11 rfl ?_
  refine tw_istore_n (lv' := [(1, .int (0 : Int32)), (0, .ref (K 0))]) X dX0_judge_12 rfl (by decide) rfl ?_
  refine tw_iconst (v := 0) X dX0_judge_13 rfl ?_
  refine tw_istore_n (lv' := [(2, .int (0 : Int32)), (1, .int (0 : Int32)), (0, .ref (K 0))]) X dX0_judge_14 rfl (by decide) rfl ?_
  refine bj_walk (P := un2 fun j3a j3b => TW p l e (rom 226 5210) s m args below meth c (MQ below (QI D vwCl A (kW K δ sr (upR ρ 0 2 (ρ 0 0)) dy) z.1 z.2) args s 0 0 A) D vwCl A (kW K δ sr (upR ρ 0 2 (ρ 0 0)) dy) 6 0 0 j3a 135 [(0, .ref (K 0)), (1, .int j3b)] []) hf ?_ ?_
  · rintro ⟨j3a, j3b⟩ hf
    dsimp only [un2] at hf ⊢
    refine tw_iload_n X dX0_judge_135 rfl 1 rfl ?_
    refine tw_istore_n (lv' := [(2, .int j3b), (0, .ref (K 0)), (1, .int j3b)]) X dX0_judge_136 rfl (by decide) rfl ?_
    refine tw_aload_n X dX0_judge_137 rfl 1 rfl ?_
    refine kgX0_47_0 X  dX0_judge_138 ?_
    refine tw_aload_n X dX0_judge_141 rfl 1 rfl ?_
    refine kgX0_54_0 X  dX0_judge_142 ?_
    obtain ⟨g5, hg5, hf⟩ := bnd hf
    refine tw_callVv (As := [.ref (K 5)]) (st := []) X (kC_X3_become_3_5 rfl hg5) kGX0_502 kI_X3_become ⟨Nat.le_of_ble_eq_true rfl, Nat.le_of_ble_eq_true rfl⟩ ⟨Nat.zero_le _, Nat.zero_le _⟩ 3 rfl rfl rfl rfl (Nat.le_of_ble_eq_true rfl) dX0_judge_145 ?_
    refine tw_iload_n X dX0_judge_148 rfl 0 rfl ?_
    exact tw_iret X hr (prj1 hf) (prj2 hf) dX0_judge_149
  · intro zz51 hf hk4
    refine jn_walk (P := un2 fun j6a j6b => TW p l e (rom 226 5210) s m args below meth c (MQ below (QI D vwCl A (kW K δ sr (upR ρ 0 2 (ρ 0 0)) dy) z.1 z.2) args s 0 0 A) D vwCl A (kW K δ sr (upR ρ 0 2 (ρ 0 0)) dy) 6 0 0 j6a 107 [(0, .ref (K 0)), (1, .int j6b)] []) hf ?_ ?_
    · rintro ⟨j6a, j6b⟩ hf
      dsimp only [un2] at hf ⊢
      refine tw_goto (tgt := 135) X dX0_judge_107 rfl ?_
      have hL := hk4 _ hf
      exact hL
    · intro zz50 hf hk7
      refine jn_walk (P := un2 fun j8a j8b => TW p l e (rom 226 5210) s m args below meth c (MQ below (QI D vwCl A (kW K δ sr (upR ρ 0 2 (ρ 0 0)) dy) z.1 z.2) args s 0 0 A) D vwCl A (kW K δ sr (upR ρ 0 2 (ρ 0 0)) dy) 6 0 0 j8a 52 [(0, .ref (K 0)), (1, .int j8b)] []) hf ?_ ?_
      · rintro ⟨j8a, j8b⟩ hf
        dsimp only [un2] at hf ⊢
        refine tw_goto (tgt := 135) X dX0_judge_52 rfl ?_
        have hf10 := leafR hf hk7
        have hL := hk4 _ hf10
        exact hL
      · intro zz49 hf hk9
        refine tw_sub [2, 1, 0] (lv' := [(0, .ref (K 0)), (1, .int (0 : Int32)), (2, .int (0 : Int32))]) rfl ?_
        refine it_walk (P := un3 fun s11a s11b s11c => TW p l e (rom 226 5210) s m args below meth c (MQ below (QI D vwCl A (kW K δ sr (upR ρ 0 2 (ρ 0 0)) dy) z.1 z.2) args s 0 0 A) D vwCl A (kW K δ sr (upR ρ 0 2 (ρ 0 0)) dy) 6 0 0 s11a 15 [(0, .ref (K 0)), (1, .int s11b), (2, .int s11c)] []) hf ?_
        rintro ⟨s11a, s11b, s11c⟩ zz48 hf hl12
        dsimp only [un3] at hf ⊢
        refine tw_iload_n X dX0_judge_15 rfl 2 rfl ?_
        refine tw_aload_n X dX0_judge_16 rfl 0 rfl ?_
        refine kgX0_509_0 X  dX0_judge_17 ?_
        refine tw_icmp_ge (tgt := 135) X dX0_judge_20 rfl hf (fun q47 hf => ?_) (fun q47 hf => ?_)
        · clear q47
          have hf13 := leafR hf hl12
          have hf14 := leafR hf13 hk9
          have hf15 := leafR hf14 hk7
          refine tw_sub [0, 1] (lv' := [(0, .ref (K 0)), (1, .int s11b)]) rfl ?_
          have hL := hk4 _ hf15
          exact hL
        · clear q47
          refine tw_iload_n X dX0_judge_23 rfl 2 rfl ?_
          refine tw_iconst (v := 1) X dX0_judge_24 rfl ?_
          refine tw_iadd X dX0_judge_25 ?_
          refine tw_istore_n (lv' := [(1, .int (s11c + (1 : Int32))), (0, .ref (K 0)), (2, .int s11c)]) X dX0_judge_26 rfl (by decide) rfl ?_
          refine tw_aload_n X dX0_judge_27 rfl 1 rfl ?_
          refine kgX0_127_0 X  dX0_judge_28 ?_
          refine tw_iconst (v := 3) X dX0_judge_31 rfl ?_
          refine tw_iload_n X dX0_judge_32 rfl 2 rfl ?_
          refine tw_imul X dX0_judge_33 ?_
          obtain ⟨x16, hx16, hf⟩ := bnd hf
          refine klX0_28 X hx16 dX0_judge_34 ?_
          refine tw_istore_n (lv' := [(3, .int x16), (1, .int (s11c + (1 : Int32))), (0, .ref (K 0)), (2, .int s11c)]) X dX0_judge_35 rfl (by decide) rfl ?_
          refine tw_aload_n X dX0_judge_36 rfl 2 rfl ?_
          refine tw_iload_n X dX0_judge_37 rfl 0 rfl ?_
          obtain ⟨x17, hx17, hf⟩ := bnd hf
          refine tw_callVz (As := [.int x16]) (st := []) X (kC_isChange hx17) kGX0_376 kI_X0_isChange ⟨Nat.le_of_ble_eq_true rfl, Nat.le_of_ble_eq_true rfl⟩ ⟨Nat.zero_le _, Nat.zero_le _⟩ 0 rfl rfl rfl rfl (Nat.le_of_ble_eq_true rfl) dX0_judge_38 ?_
          intro hb18
          refine tw_if_eq (tgt := 135) X dX0_judge_41 rfl hf (fun q46 hf => ?_) (fun q46 hf => ?_)
          · clear q46
            have hf19 := leafR hf hl12
            have hf20 := leafR hf19 hk9
            have hf21 := leafR hf20 hk7
            refine tw_sub [2, 1] (lv' := [(0, .ref (K 0)), (1, .int (s11c + (1 : Int32)))]) rfl ?_
            have hL := hk4 _ hf21
            exact hL
          · clear q46
            refine tw_aload_n X dX0_judge_44 rfl 2 rfl ?_
            refine tw_iload_n X dX0_judge_45 rfl 0 rfl ?_
            obtain ⟨⟨y22a, y22b⟩, hy22, hf⟩ := bnd hf
            dsimp only [un2] at hf
            refine tw_callVz (As := [.int x16]) (st := []) X (kC_can hE2 hy22) kGX0_389 kI_X0_can ⟨Nat.le_of_ble_eq_true rfl, Nat.le_of_ble_eq_true rfl⟩ ⟨Nat.zero_le _, Nat.zero_le _⟩ 0 rfl rfl rfl rfl (Nat.le_of_ble_eq_true rfl) dX0_judge_46 ?_
            intro hb23
            refine tw_if_ne (tgt := 55) X dX0_judge_49 rfl hf (fun q45 hf => ?_) (fun q45 hf => ?_)
            · clear q45
              have hf24 := leafR hf hl12
              refine tw_sub [2, 1] (lv' := [(0, .ref (K 0)), (1, .int (s11c + (1 : Int32)))]) rfl ?_
              have hL := leafL hf24 hk9
              exact hL
            · clear q45
              refine tw_aload_n X dX0_judge_55 rfl 2 rfl ?_
              refine tw_iload_n X dX0_judge_56 rfl 0 rfl ?_
              obtain ⟨⟨y25a, y25b⟩, hy25, hf⟩ := bnd hf
              dsimp only [un2] at hf
              refine tw_callVi (As := [.int x16]) (st := []) X (kC_carry hE2 hy25) kGX0_392 kI_X0_carry ⟨Nat.le_of_ble_eq_true rfl, Nat.le_of_ble_eq_true rfl⟩ ⟨Nat.zero_le _, Nat.zero_le _⟩ 0 rfl rfl rfl rfl (Nat.le_of_ble_eq_true rfl) dX0_judge_57 ?_
              refine tw_istore (lv' := [(4, .int y25a), (3, .int x16), (1, .int (s11c + (1 : Int32))), (0, .ref (K 0)), (2, .int s11c)]) X dX0_judge_60 (by decide) rfl ?_
              refine tw_iload X dX0_judge_62 0 rfl ?_
              refine tw_if_lt (tgt := 135) X dX0_judge_64 rfl hf (fun q44 hf => ?_) (fun q44 hf => ?_)
              · clear q44
                have hf26 := leafR hf hl12
                have hf27 := leafR hf26 hk9
                have hf28 := leafR hf27 hk7
                refine tw_sub [3, 2] (lv' := [(0, .ref (K 0)), (1, .int (s11c + (1 : Int32)))]) rfl ?_
                have hL := hk4 _ hf28
                exact hL
              · clear q44
                refine tw_aload_n X dX0_judge_67 rfl 3 rfl ?_
                refine kgX0_127_0 X  dX0_judge_68 ?_
                refine tw_iconst (v := 3) X dX0_judge_71 rfl ?_
                refine tw_iload_n X dX0_judge_72 rfl 4 rfl ?_
                refine tw_imul X dX0_judge_73 ?_
                refine tw_iconst (v := 1) X dX0_judge_74 rfl ?_
                refine tw_iadd X dX0_judge_75 ?_
                obtain ⟨x29, hx29, hf⟩ := bnd hf
                refine klX0_28 X hx29 dX0_judge_76 ?_
                refine tw_aload_n X dX0_judge_77 rfl 3 rfl ?_
                refine kgX0_47_0 X  dX0_judge_78 ?_
                obtain ⟨x30, hx30, hf⟩ := bnd hf
                refine tw_callVi (As := []) (st := [.int x29]) X (kC_X3_purse hx30) kGX0_214 kI_X3_purse ⟨Nat.le_of_ble_eq_true rfl, Nat.le_of_ble_eq_true rfl⟩ ⟨Nat.zero_le _, Nat.zero_le _⟩ 3 rfl rfl rfl rfl (Nat.le_of_ble_eq_true rfl) dX0_judge_81 ?_
                refine tw_icmp_ne (tgt := 135) X dX0_judge_84 rfl hf (fun q43 hf => ?_) (fun q43 hf => ?_)
                · clear q43
                  refine tw_aload_n X dX0_judge_87 rfl 3 rfl ?_
                  refine kgX0_127_0 X  dX0_judge_88 ?_
                  refine tw_iconst (v := 3) X dX0_judge_91 rfl ?_
                  refine tw_iload_n X dX0_judge_92 rfl 4 rfl ?_
                  refine tw_imul X dX0_judge_93 ?_
                  refine tw_iconst (v := 2) X dX0_judge_94 rfl ?_
                  refine tw_iadd X dX0_judge_95 ?_
                  obtain ⟨x31, hx31, hf⟩ := bnd hf
                  refine klX0_28 X hx31 dX0_judge_96 ?_
                  refine tw_aload_n X dX0_judge_97 rfl 3 rfl ?_
                  refine kgX0_47_0 X  dX0_judge_98 ?_
                  obtain ⟨x32, hx32, hf⟩ := bnd hf
                  refine tw_callVi (As := []) (st := [.int x31]) X (kC_X3_whole hx32) kGX0_211 kI_X3_whole ⟨Nat.le_of_ble_eq_true rfl, Nat.le_of_ble_eq_true rfl⟩ ⟨Nat.zero_le _, Nat.zero_le _⟩ 3 rfl rfl rfl rfl (Nat.le_of_ble_eq_true rfl) dX0_judge_101 ?_
                  refine tw_icmp_eq (tgt := 110) X dX0_judge_104 rfl hf (fun q39 hf => ?_) (fun q39 hf => ?_)
                  · clear q39
                    refine tw_iload_n X dX0_judge_110 rfl 4 rfl ?_
                    refine tw_iconst (v := 1) X dX0_judge_111 rfl ?_
                    refine tw_iadd X dX0_judge_112 ?_
                    refine tw_aload_n X dX0_judge_113 rfl 3 rfl ?_
                    refine kgX0_509_0 X  dX0_judge_114 ?_
                    refine tw_icmp_lt (tgt := 127) X dX0_judge_117 rfl hf (fun q36 hf => ?_) (fun q36 hf => ?_)
                    · clear q36
                      refine tw_iconst (v := 0) X dX0_judge_127 rfl ?_
                      refine tw_istore_n (lv' := [(1, .int (0 : Int32)), (4, .int y25a), (3, .int x16), (0, .ref (K 0)), (2, .int s11c)]) X dX0_judge_128 rfl (by decide) rfl ?_
                      refine tw_iinc (q := 4) (v := (s11c + (1 : Int32))) (lv' := [(2, .int (s11c + (1 : Int32))), (1, .int (0 : Int32)), (4, .int y25a), (3, .int x16), (0, .ref (K 0))]) X dX0_judge_129 rfl rfl (by decide) rfl ?_
                      refine tw_goto (tgt := 15) X dX0_judge_132 rfl ?_
                      refine tw_sub [4, 1, 0] (lv' := [(0, .ref (K 0)), (1, .int (0 : Int32)), (2, .int (s11c + (1 : Int32)))]) rfl ?_
                      have hL := leafL hf hl12
                      exact hL
                    · clear q36
                      refine tw_aload_n X dX0_judge_120 rfl 3 rfl ?_
                      obtain ⟨x33, hx33, hf⟩ := bnd hf
                      refine tw_callVz (As := []) (st := []) X (kC_isDone hx33) kGX0_416 kI_X0_isDone ⟨Nat.le_of_ble_eq_true rfl, Nat.le_of_ble_eq_true rfl⟩ ⟨Nat.zero_le _, Nat.zero_le _⟩ 0 rfl rfl rfl rfl (Nat.le_of_ble_eq_true rfl) dX0_judge_121 ?_
                      intro hb34
                      refine tw_if_eq (tgt := 129) X dX0_judge_124 rfl hf (fun q35 hf => ?_) (fun q35 hf => ?_)
                      · clear q35
                        refine tw_iinc (q := 4) (v := (s11c + (1 : Int32))) (lv' := [(2, .int (s11c + (1 : Int32))), (4, .int y25a), (3, .int x16), (1, .int (s11c + (1 : Int32))), (0, .ref (K 0))]) X dX0_judge_129 rfl rfl (by decide) rfl ?_
                        refine tw_goto (tgt := 15) X dX0_judge_132 rfl ?_
                        refine tw_sub [4, 3, 0] (lv' := [(0, .ref (K 0)), (1, .int (s11c + (1 : Int32))), (2, .int (s11c + (1 : Int32)))]) rfl ?_
                        have hL := leafL hf hl12
                        exact hL
                      · clear q35
                        refine tw_iconst (v := 0) X dX0_judge_127 rfl ?_
                        refine tw_istore_n (lv' := [(1, .int (0 : Int32)), (4, .int y25a), (3, .int x16), (0, .ref (K 0)), (2, .int s11c)]) X dX0_judge_128 rfl (by decide) rfl ?_
                        refine tw_iinc (q := 4) (v := (s11c + (1 : Int32))) (lv' := [(2, .int (s11c + (1 : Int32))), (1, .int (0 : Int32)), (4, .int y25a), (3, .int x16), (0, .ref (K 0))]) X dX0_judge_129 rfl rfl (by decide) rfl ?_
                        refine tw_goto (tgt := 15) X dX0_judge_132 rfl ?_
                        refine tw_sub [4, 1, 0] (lv' := [(0, .ref (K 0)), (1, .int (0 : Int32)), (2, .int (s11c + (1 : Int32)))]) rfl ?_
                        have hL := leafL hf hl12
                        exact hL
                  · clear q39
                    have hf37 := leafR hf hl12
                    have hf38 := leafR hf37 hk9
                    refine tw_sub [3, 2] (lv' := [(0, .ref (K 0)), (1, .int (s11c + (1 : Int32)))]) rfl ?_
                    have hL := leafL hf38 hk7
                    exact hL
                · clear q43
                  have hf40 := leafR hf hl12
                  have hf41 := leafR hf40 hk9
                  have hf42 := leafR hf41 hk7
                  refine tw_sub [3, 2] (lv' := [(0, .ref (K 0)), (1, .int (s11c + (1 : Int32)))]) rfl ?_
                  have hL := hk4 _ hf42
                  exact hL
noncomputable def kF_isShelf (a1 : Int32) : Int32 :=
  (kF_isIn a1 (0 : Int32) (3 : Int32))
set_option maxHeartbeats 4000000 in
theorem kC_isShelf {l : Launch} {D : va_G} {A : Nat → Prop} {K : Nat → Nat} {δ : Nat → ClassId} {sr ρ : Rf} {dy : va_W} {g : St} (a1 : Int32) : Ct l yX0_isShelf cX0_isShelf 1 (some .boolean) 1 22 D vwCl (kT δ) A (kW K δ sr ρ dy) [.int a1] g (QZ D vwCl A (kW K δ sr ρ dy) (kF_isShelf a1) g) := by
  generalize hf : kF_isShelf a1 = z
  unfold kF_isShelf at hf
  refine ct_intro (own := RX0) (lv0 := [(0, .int a1)]) (by decide) rfl (Nat.le_of_ble_eq_true rfl) rfl ?_
  intro p e s m args below meth c X hr
  refine tw_iload_n X dX0_isShelf_0 rfl 0 rfl ?_
  refine tw_iconst (v := 0) X dX0_isShelf_1 rfl ?_
  refine tw_iconst (v := 3) X dX0_isShelf_2 rfl ?_
  refine tw_callSz (As := [.int a1, .int (0 : Int32), .int (3 : Int32)]) (st := []) X (kC_isIn (g := g) a1 (0 : Int32) (3 : Int32)) kGX0_149 kI_X0_isIn ⟨Nat.le_of_ble_eq_true rfl, Nat.le_of_ble_eq_true rfl⟩ ⟨Nat.zero_le _, Nat.zero_le _⟩ rfl rfl (Nat.le_of_ble_eq_true rfl) dX0_isShelf_3 ?_
  intro hb1
  exact tw_zret X hr hb1 hf rfl dX0_isShelf_6
noncomputable def kF_trace (g : St) (a1 : Int32) : Option (Int32) :=
  if (kF_isIn a1 (0 : Int32) ((g 32 1) - (1 : Int32))) = 0 then
    some (-3 : Int32)
  else
    (rd (g 33) 30 a1).bind fun x2 =>
    some x2
set_option maxHeartbeats 4000000 in
theorem kC_trace {l : Launch} {D : va_G} {A : Nat → Prop} {K : Nat → Nat} {δ : Nat → ClassId} {sr ρ : Rf} {dy : va_W} {g : St} {a1 : Int32} {z : Int32} (hf : kF_trace g a1 = some z) : Ct l yX0_trace cX0_trace 2 (some .int) 1 22 D vwCl (kT δ) A (kW K δ sr ρ dy) [.ref (K 0), .int a1] g (QI D vwCl A (kW K δ sr ρ dy) z g) := by
  unfold kF_trace at hf
  refine ct_intro (own := RX0) (lv0 := [(0, .ref (K 0)), (1, .int a1)]) (by decide) rfl (Nat.le_of_ble_eq_true rfl) rfl ?_
  intro p e s m args below meth c X hr
  refine tw_iload_n X dX0_trace_0 rfl 1 rfl ?_
  refine tw_iconst (v := 0) X dX0_trace_1 rfl ?_
  refine tw_aload_n X dX0_trace_2 rfl 0 rfl ?_
  refine kgX0_142_0 X  dX0_trace_3 ?_
  refine kgX0_578_32 X  dX0_trace_6 ?_
  refine tw_iconst (v := 1) X dX0_trace_9 rfl ?_
  refine tw_isub X dX0_trace_10 ?_
  refine tw_callSz (As := [.int a1, .int (0 : Int32), .int ((g 32 1) - (1 : Int32))]) (st := []) X (kC_isIn (g := g) a1 (0 : Int32) ((g 32 1) - (1 : Int32))) kGX0_149 kI_X0_isIn ⟨Nat.le_of_ble_eq_true rfl, Nat.le_of_ble_eq_true rfl⟩ ⟨Nat.zero_le _, Nat.zero_le _⟩ rfl rfl (Nat.le_of_ble_eq_true rfl) dX0_trace_11 ?_
  intro hb1
  refine tw_if_eq (tgt := 29) X dX0_trace_14 rfl hf (fun q3 hf => ?_) (fun q3 hf => ?_)
  · clear q3
    refine tw_bipush (v := -3) X dX0_trace_29 rfl ?_
    exact tw_iret X hr (Option.some.inj hf) rfl dX0_trace_31
  · clear q3
    refine tw_aload_n X dX0_trace_17 rfl 0 rfl ?_
    refine kgX0_142_0 X  dX0_trace_18 ?_
    refine kgX0_598_32 X  dX0_trace_21 ?_
    refine tw_iload_n X dX0_trace_24 rfl 1 rfl ?_
    obtain ⟨x2, hx2, hf⟩ := bnd hf
    refine klX0_33 X hx2 dX0_trace_25 ?_
    refine tw_goto (tgt := 31) X dX0_trace_26 rfl ?_
    exact tw_iret X hr (Option.some.inj hf) rfl dX0_trace_31
noncomputable def kF_many (E : EE) (g : St) (a1 : Int32) : Option (Int32) :=
  if a1 = (0 : Int32) then
    some (g 40 0)
  else if a1 = (1 : Int32) then
    some (Int32.ofNat (rn E))
  else if a1 = (2 : Int32) then
    some (g 40 3)
  else if a1 = (3 : Int32) then
    some (g 40 2)
  else if a1 = (4 : Int32) then
    some (g 0 28)
  else if a1 = (5 : Int32) then
    some (g 0 11)
  else if a1 = (6 : Int32) then
    some (g 32 1)
  else 
    some (-1 : Int32)
set_option maxHeartbeats 4000000 in
theorem kC_many {l : Launch} {D : va_G} {A : Nat → Prop} {K : Nat → Nat} {δ : Nat → ClassId} {sr ρ : Rf} {dy : va_W} {E : EE} (hE : EOK δ ρ dy E) {g : St} {a1 : Int32} {z : Int32} (hf : kF_many E g a1 = some z) : Ct l yX0_many cX0_many 2 (some .int) 0 0 D vwCl (kT δ) A (kW K δ sr ρ dy) [.ref (K 0), .int a1] g (QI D vwCl A (kW K δ sr ρ dy) z g) := by
  unfold kF_many at hf
  refine ct_intro (own := RX0) (lv0 := [(0, .ref (K 0)), (1, .int a1)]) (by decide) rfl (Nat.le_of_ble_eq_true rfl) rfl ?_
  intro p e s m args below meth c X hr
  refine tw_iload_n X dX0_many_0 rfl 1 rfl ?_
  by_cases w1 : a1 = (0 : Int32)
  · rw [if_pos w1] at hf
    refine tw_tableIn (off := 43) (tgt := 44) X dX0_many_1 w1 (by decide) (by decide) rfl rfl ?_
    refine tw_aload_n X dX0_many_44 rfl 0 rfl ?_
    refine kgX0_47_0 X  dX0_many_45 ?_
    refine kgX0_147_3 X  dX0_many_48 ?_
    exact tw_iret X hr (Option.some.inj hf) rfl dX0_many_51
  · rw [if_neg w1] at hf
    by_cases w2 : a1 = (1 : Int32)
    · rw [if_pos w2] at hf
      refine tw_tableIn (off := 51) (tgt := 52) X dX0_many_1 w2 (by decide) (by decide) rfl rfl ?_
      refine tw_aload_n X dX0_many_52 rfl 0 rfl ?_
      refine kgX0_47_0 X  dX0_many_53 ?_
      refine kg_rulesX0 X hE dX0_many_56 ?_
      refine kd_rlen X hE dX0_many_59 ?_
      exact tw_iret X hr (Option.some.inj hf) rfl dX0_many_60
    · rw [if_neg w2] at hf
      by_cases w3 : a1 = (2 : Int32)
      · rw [if_pos w3] at hf
        refine tw_tableIn (off := 60) (tgt := 61) X dX0_many_1 w3 (by decide) (by decide) rfl rfl ?_
        refine tw_aload_n X dX0_many_61 rfl 0 rfl ?_
        refine kgX0_47_0 X  dX0_many_62 ?_
        refine kgX0_217_3 X  dX0_many_65 ?_
        exact tw_iret X hr (Option.some.inj hf) rfl dX0_many_68
      · rw [if_neg w3] at hf
        by_cases w4 : a1 = (3 : Int32)
        · rw [if_pos w4] at hf
          refine tw_tableIn (off := 68) (tgt := 69) X dX0_many_1 w4 (by decide) (by decide) rfl rfl ?_
          refine tw_aload_n X dX0_many_69 rfl 0 rfl ?_
          refine kgX0_47_0 X  dX0_many_70 ?_
          refine kgX0_471_3 X  dX0_many_73 ?_
          exact tw_iret X hr (Option.some.inj hf) rfl dX0_many_76
        · rw [if_neg w4] at hf
          by_cases w5 : a1 = (4 : Int32)
          · rw [if_pos w5] at hf
            refine tw_tableIn (off := 76) (tgt := 77) X dX0_many_1 w5 (by decide) (by decide) rfl rfl ?_
            refine tw_aload_n X dX0_many_77 rfl 0 rfl ?_
            refine kgX0_509_0 X  dX0_many_78 ?_
            exact tw_iret X hr (Option.some.inj hf) rfl dX0_many_81
          · rw [if_neg w5] at hf
            by_cases w6 : a1 = (5 : Int32)
            · rw [if_pos w6] at hf
              refine tw_tableIn (off := 81) (tgt := 82) X dX0_many_1 w6 (by decide) (by decide) rfl rfl ?_
              refine tw_aload_n X dX0_many_82 rfl 0 rfl ?_
              refine kgX0_219_0 X  dX0_many_83 ?_
              exact tw_iret X hr (Option.some.inj hf) rfl dX0_many_86
            · rw [if_neg w6] at hf
              by_cases w7 : a1 = (6 : Int32)
              · rw [if_pos w7] at hf
                refine tw_tableIn (off := 86) (tgt := 87) X dX0_many_1 w7 (by decide) (by decide) rfl rfl ?_
                refine tw_aload_n X dX0_many_87 rfl 0 rfl ?_
                refine kgX0_142_0 X  dX0_many_88 ?_
                refine kgX0_578_32 X  dX0_many_91 ?_
                exact tw_iret X hr (Option.some.inj hf) rfl dX0_many_94
              · rw [if_neg w7] at hf
                refine tw_tableOut (tgt := 95) X dX0_many_1 (by have w1' : a1.toInt ≠ 0 := i32_ne w1; have w2' : a1.toInt ≠ 1 := i32_ne w2; have w3' : a1.toInt ≠ 2 := i32_ne w3; have w4' : a1.toInt ≠ 3 := i32_ne w4; have w5' : a1.toInt ≠ 4 := i32_ne w5; have w6' : a1.toInt ≠ 5 := i32_ne w6; have w7' : a1.toInt ≠ 6 := i32_ne w7; omega) rfl ?_
                refine tw_iconst (v := -1) X dX0_many_95 rfl ?_
                exact tw_iret X hr (Option.some.inj hf) rfl dX0_many_96
noncomputable def kF_X3_become_4_3 (g : St) : Option (St) :=
  (pf g 60 0 (g 40 0)).bind fun g1 =>
  (pf g1 60 1 (g1 40 1)).bind fun g2 =>
  (pf g2 60 2 (g2 40 2)).bind fun g3 =>
  (pf g3 60 3 (g3 40 3)).bind fun g4 =>
  (pf g4 60 4 (g4 40 4)).bind fun g5 =>
  (cpy g5 45 6 65 6 (0 : Int32) (0 : Int32) (6 : Int32)).bind fun g6 =>
  (cpy g6 46 6 66 6 (0 : Int32) (0 : Int32) (6 : Int32)).bind fun g7 =>
  (cpy g7 47 6 67 6 (0 : Int32) (0 : Int32) (6 : Int32)).bind fun g8 =>
  (cpy g8 48 6 68 6 (0 : Int32) (0 : Int32) (6 : Int32)).bind fun g9 =>
  (cpy g9 49 6 69 6 (0 : Int32) (0 : Int32) (6 : Int32)).bind fun g10 =>
  (cpy g10 50 8 70 8 (0 : Int32) (0 : Int32) (8 : Int32)).bind fun g11 =>
  (cpy g11 51 8 71 8 (0 : Int32) (0 : Int32) (8 : Int32)).bind fun g12 =>
  (cpy g12 52 6 72 6 (0 : Int32) (0 : Int32) (6 : Int32)).bind fun g13 =>
  (cpy g13 53 6 73 6 (0 : Int32) (0 : Int32) (6 : Int32)).bind fun g14 =>
  (cpy g14 54 6 74 6 (0 : Int32) (0 : Int32) (6 : Int32)).bind fun g15 =>
  (cpy g15 55 12 75 12 (0 : Int32) (0 : Int32) (12 : Int32)).bind fun g16 =>
  (cpy g16 56 12 76 12 (0 : Int32) (0 : Int32) (12 : Int32)).bind fun g17 =>
  (cpy g17 57 12 77 12 (0 : Int32) (0 : Int32) (12 : Int32)).bind fun g18 =>
  some g18
set_option maxHeartbeats 4000000 in
theorem kC_X3_become_4_3 {l : Launch} {D : va_G} {A : Nat → Prop} {K : Nat → Nat} {δ : Nat → ClassId} {sr ρ : Rf} {dy : va_W} {g : St} {z : St} (hf : kF_X3_become_4_3 g = some z) : Ct l yX3_become cX3_become 2 none 1 40 D vwCl (kT δ) A (kW K δ sr ρ dy) [.ref (K 4), .ref (K 3)] g (QV D vwCl A (kW K δ sr (upR ρ 0 1 (ρ 0 0)) dy) z) := by
  unfold kF_X3_become_4_3 at hf
  refine ct_intro (own := RX3) (lv0 := [(0, .ref (K 4)), (1, .ref (K 3))]) (by decide) rfl (Nat.le_of_ble_eq_true rfl) rfl ?_
  intro p e s m args below meth c X hr
  refine tw_aload_n X dX3_become_0 rfl 0 rfl ?_
  refine tw_aload_n X dX3_become_1 rfl 1 rfl ?_
  refine kgX3_61_3 X  dX3_become_2 ?_
  obtain ⟨g1, hg1, hf⟩ := bnd hf
  refine kpX3_61_4 X hg1 dX3_become_5 ?_
  refine tw_aload_n X dX3_become_8 rfl 0 rfl ?_
  refine tw_aload_n X dX3_become_9 rfl 1 rfl ?_
  refine kgX3_64_3 X  dX3_become_10 ?_
  obtain ⟨g2, hg2, hf⟩ := bnd hf
  refine kpX3_64_4 X hg2 dX3_become_13 ?_
  refine tw_aload_n X dX3_become_16 rfl 0 rfl ?_
  refine tw_aload_n X dX3_become_17 rfl 1 rfl ?_
  refine kgX3_67_3 X  dX3_become_18 ?_
  obtain ⟨g3, hg3, hf⟩ := bnd hf
  refine kpX3_67_4 X hg3 dX3_become_21 ?_
  refine tw_aload_n X dX3_become_24 rfl 0 rfl ?_
  refine tw_aload_n X dX3_become_25 rfl 1 rfl ?_
  refine kgX3_70_3 X  dX3_become_26 ?_
  obtain ⟨g4, hg4, hf⟩ := bnd hf
  refine kpX3_70_4 X hg4 dX3_become_29 ?_
  refine tw_aload_n X dX3_become_32 rfl 0 rfl ?_
  refine tw_aload_n X dX3_become_33 rfl 1 rfl ?_
  refine kgX3_9_3 X  dX3_become_34 ?_
  obtain ⟨g5, hg5, hf⟩ := bnd hf
  refine kpX3_9_4 X hg5 dX3_become_37 ?_
  refine tw_aload_n X dX3_become_40 rfl 0 rfl ?_
  refine tw_aload_n X dX3_become_41 rfl 1 rfl ?_
  refine kgq_0 X  dX3_become_42 ?_
  refine kpq_1_0 X dX3_become_45 ?_
  refine tw_aload_n X dX3_become_48 rfl 1 rfl ?_
  refine kgX3_15_3 X  dX3_become_49 ?_
  refine tw_iconst (v := 0) X dX3_become_52 rfl ?_
  refine tw_aload_n X dX3_become_53 rfl 0 rfl ?_
  refine kgX3_15_4 X  dX3_become_54 ?_
  refine tw_iconst (v := 0) X dX3_become_57 rfl ?_
  refine tw_bipush (v := 6) X dX3_become_58 rfl ?_
  obtain ⟨g6, hg6, hf⟩ := bnd hf
  refine kcX3_45_65 X hg6 ⟨Nat.le_of_ble_eq_true rfl, Nat.le_of_ble_eq_true rfl⟩ (Nat.le_of_ble_eq_true rfl) dX3_become_60 ?_
  refine tw_aload_n X dX3_become_63 rfl 1 rfl ?_
  refine kgX3_19_3 X  dX3_become_64 ?_
  refine tw_iconst (v := 0) X dX3_become_67 rfl ?_
  refine tw_aload_n X dX3_become_68 rfl 0 rfl ?_
  refine kgX3_19_4 X  dX3_become_69 ?_
  refine tw_iconst (v := 0) X dX3_become_72 rfl ?_
  refine tw_bipush (v := 6) X dX3_become_73 rfl ?_
  obtain ⟨g7, hg7, hf⟩ := bnd hf
  refine kcX3_46_66 X hg7 ⟨Nat.le_of_ble_eq_true rfl, Nat.le_of_ble_eq_true rfl⟩ (Nat.le_of_ble_eq_true rfl) dX3_become_75 ?_
  refine tw_aload_n X dX3_become_78 rfl 1 rfl ?_
  refine kgX3_22_3 X  dX3_become_79 ?_
  refine tw_iconst (v := 0) X dX3_become_82 rfl ?_
  refine tw_aload_n X dX3_become_83 rfl 0 rfl ?_
  refine kgX3_22_4 X  dX3_become_84 ?_
  refine tw_iconst (v := 0) X dX3_become_87 rfl ?_
  refine tw_bipush (v := 6) X dX3_become_88 rfl ?_
  obtain ⟨g8, hg8, hf⟩ := bnd hf
  refine kcX3_47_67 X hg8 ⟨Nat.le_of_ble_eq_true rfl, Nat.le_of_ble_eq_true rfl⟩ (Nat.le_of_ble_eq_true rfl) dX3_become_90 ?_
  refine tw_aload_n X dX3_become_93 rfl 1 rfl ?_
  refine kgX3_25_3 X  dX3_become_94 ?_
  refine tw_iconst (v := 0) X dX3_become_97 rfl ?_
  refine tw_aload_n X dX3_become_98 rfl 0 rfl ?_
  refine kgX3_25_4 X  dX3_become_99 ?_
  refine tw_iconst (v := 0) X dX3_become_102 rfl ?_
  refine tw_bipush (v := 6) X dX3_become_103 rfl ?_
  obtain ⟨g9, hg9, hf⟩ := bnd hf
  refine kcX3_48_68 X hg9 ⟨Nat.le_of_ble_eq_true rfl, Nat.le_of_ble_eq_true rfl⟩ (Nat.le_of_ble_eq_true rfl) dX3_become_105 ?_
  refine tw_aload_n X dX3_become_108 rfl 1 rfl ?_
  refine kgX3_28_3 X  dX3_become_109 ?_
  refine tw_iconst (v := 0) X dX3_become_112 rfl ?_
  refine tw_aload_n X dX3_become_113 rfl 0 rfl ?_
  refine kgX3_28_4 X  dX3_become_114 ?_
  refine tw_iconst (v := 0) X dX3_become_117 rfl ?_
  refine tw_bipush (v := 6) X dX3_become_118 rfl ?_
  obtain ⟨g10, hg10, hf⟩ := bnd hf
  refine kcX3_49_69 X hg10 ⟨Nat.le_of_ble_eq_true rfl, Nat.le_of_ble_eq_true rfl⟩ (Nat.le_of_ble_eq_true rfl) dX3_become_120 ?_
  refine tw_aload_n X dX3_become_123 rfl 1 rfl ?_
  refine kgX3_31_3 X  dX3_become_124 ?_
  refine tw_iconst (v := 0) X dX3_become_127 rfl ?_
  refine tw_aload_n X dX3_become_128 rfl 0 rfl ?_
  refine kgX3_31_4 X  dX3_become_129 ?_
  refine tw_iconst (v := 0) X dX3_become_132 rfl ?_
  refine tw_bipush (v := 8) X dX3_become_133 rfl ?_
  obtain ⟨g11, hg11, hf⟩ := bnd hf
  refine kcX3_50_70 X hg11 ⟨Nat.le_of_ble_eq_true rfl, Nat.le_of_ble_eq_true rfl⟩ (Nat.le_of_ble_eq_true rfl) dX3_become_135 ?_
  refine tw_aload_n X dX3_become_138 rfl 1 rfl ?_
  refine kgX3_34_3 X  dX3_become_139 ?_
  refine tw_iconst (v := 0) X dX3_become_142 rfl ?_
  refine tw_aload_n X dX3_become_143 rfl 0 rfl ?_
  refine kgX3_34_4 X  dX3_become_144 ?_
  refine tw_iconst (v := 0) X dX3_become_147 rfl ?_
  refine tw_bipush (v := 8) X dX3_become_148 rfl ?_
  obtain ⟨g12, hg12, hf⟩ := bnd hf
  refine kcX3_51_71 X hg12 ⟨Nat.le_of_ble_eq_true rfl, Nat.le_of_ble_eq_true rfl⟩ (Nat.le_of_ble_eq_true rfl) dX3_become_150 ?_
  refine tw_aload_n X dX3_become_153 rfl 1 rfl ?_
  refine kgX3_37_3 X  dX3_become_154 ?_
  refine tw_iconst (v := 0) X dX3_become_157 rfl ?_
  refine tw_aload_n X dX3_become_158 rfl 0 rfl ?_
  refine kgX3_37_4 X  dX3_become_159 ?_
  refine tw_iconst (v := 0) X dX3_become_162 rfl ?_
  refine tw_bipush (v := 6) X dX3_become_163 rfl ?_
  obtain ⟨g13, hg13, hf⟩ := bnd hf
  refine kcX3_52_72 X hg13 ⟨Nat.le_of_ble_eq_true rfl, Nat.le_of_ble_eq_true rfl⟩ (Nat.le_of_ble_eq_true rfl) dX3_become_165 ?_
  refine tw_aload_n X dX3_become_168 rfl 1 rfl ?_
  refine kgX3_40_3 X  dX3_become_169 ?_
  refine tw_iconst (v := 0) X dX3_become_172 rfl ?_
  refine tw_aload_n X dX3_become_173 rfl 0 rfl ?_
  refine kgX3_40_4 X  dX3_become_174 ?_
  refine tw_iconst (v := 0) X dX3_become_177 rfl ?_
  refine tw_bipush (v := 6) X dX3_become_178 rfl ?_
  obtain ⟨g14, hg14, hf⟩ := bnd hf
  refine kcX3_53_73 X hg14 ⟨Nat.le_of_ble_eq_true rfl, Nat.le_of_ble_eq_true rfl⟩ (Nat.le_of_ble_eq_true rfl) dX3_become_180 ?_
  refine tw_aload_n X dX3_become_183 rfl 1 rfl ?_
  refine kgX3_43_3 X  dX3_become_184 ?_
  refine tw_iconst (v := 0) X dX3_become_187 rfl ?_
  refine tw_aload_n X dX3_become_188 rfl 0 rfl ?_
  refine kgX3_43_4 X  dX3_become_189 ?_
  refine tw_iconst (v := 0) X dX3_become_192 rfl ?_
  refine tw_bipush (v := 6) X dX3_become_193 rfl ?_
  obtain ⟨g15, hg15, hf⟩ := bnd hf
  refine kcX3_54_74 X hg15 ⟨Nat.le_of_ble_eq_true rfl, Nat.le_of_ble_eq_true rfl⟩ (Nat.le_of_ble_eq_true rfl) dX3_become_195 ?_
  refine tw_aload_n X dX3_become_198 rfl 1 rfl ?_
  refine kgX3_46_3 X  dX3_become_199 ?_
  refine tw_iconst (v := 0) X dX3_become_202 rfl ?_
  refine tw_aload_n X dX3_become_203 rfl 0 rfl ?_
  refine kgX3_46_4 X  dX3_become_204 ?_
  refine tw_iconst (v := 0) X dX3_become_207 rfl ?_
  refine tw_bipush (v := 12) X dX3_become_208 rfl ?_
  obtain ⟨g16, hg16, hf⟩ := bnd hf
  refine kcX3_55_75 X hg16 ⟨Nat.le_of_ble_eq_true rfl, Nat.le_of_ble_eq_true rfl⟩ (Nat.le_of_ble_eq_true rfl) dX3_become_210 ?_
  refine tw_aload_n X dX3_become_213 rfl 1 rfl ?_
  refine kgX3_49_3 X  dX3_become_214 ?_
  refine tw_iconst (v := 0) X dX3_become_217 rfl ?_
  refine tw_aload_n X dX3_become_218 rfl 0 rfl ?_
  refine kgX3_49_4 X  dX3_become_219 ?_
  refine tw_iconst (v := 0) X dX3_become_222 rfl ?_
  refine tw_bipush (v := 12) X dX3_become_223 rfl ?_
  obtain ⟨g17, hg17, hf⟩ := bnd hf
  refine kcX3_56_76 X hg17 ⟨Nat.le_of_ble_eq_true rfl, Nat.le_of_ble_eq_true rfl⟩ (Nat.le_of_ble_eq_true rfl) dX3_become_225 ?_
  refine tw_aload_n X dX3_become_228 rfl 1 rfl ?_
  refine kgX3_52_3 X  dX3_become_229 ?_
  refine tw_iconst (v := 0) X dX3_become_232 rfl ?_
  refine tw_aload_n X dX3_become_233 rfl 0 rfl ?_
  refine kgX3_52_4 X  dX3_become_234 ?_
  refine tw_iconst (v := 0) X dX3_become_237 rfl ?_
  refine tw_bipush (v := 12) X dX3_become_238 rfl ?_
  obtain ⟨g18, hg18, hf⟩ := bnd hf
  refine kcX3_57_77 X hg18 ⟨Nat.le_of_ble_eq_true rfl, Nat.le_of_ble_eq_true rfl⟩ (Nat.le_of_ble_eq_true rfl) dX3_become_240 ?_
  exact tw_vret X hr (Option.some.inj hf) dX3_become_243
noncomputable def kF_keep (g : St) : Option (Int32 × St) :=
  (kF_X3_become_4_3 g).bind fun g1 =>
  (pf g1 0 6 (1 : Int32)).bind fun g2 =>
  some ((1 : Int32), g2)
set_option maxHeartbeats 4000000 in
theorem kC_keep {l : Launch} {D : va_G} {A : Nat → Prop} {K : Nat → Nat} {δ : Nat → ClassId} {sr ρ : Rf} {dy : va_W} {g : St} {z : Int32 × St} (hf : kF_keep g = some z) : Ct l yX0_keep cX0_keep 1 (some .int) 2 61 D vwCl (kT δ) A (kW K δ sr ρ dy) [.ref (K 0)] g (QI D vwCl A (kW K δ sr (upR ρ 0 1 (ρ 0 0)) dy) z.1 z.2) := by
  unfold kF_keep at hf
  refine ct_intro (own := RX0) (lv0 := [(0, .ref (K 0))]) (by decide) rfl (Nat.le_of_ble_eq_true rfl) rfl ?_
  intro p e s m args below meth c X hr
  refine tw_aload_n X dX0_keep_0 rfl 0 rfl ?_
  refine kgX0_51_0 X  dX0_keep_1 ?_
  refine tw_aload_n X dX0_keep_4 rfl 0 rfl ?_
  refine kgX0_47_0 X  dX0_keep_5 ?_
  obtain ⟨g1, hg1, hf⟩ := bnd hf
  refine tw_callVv (As := [.ref (K 3)]) (st := []) X (kC_X3_become_4_3 hg1) kGX0_502 kI_X3_become ⟨Nat.le_of_ble_eq_true rfl, Nat.le_of_ble_eq_true rfl⟩ ⟨Nat.zero_le _, Nat.zero_le _⟩ 4 rfl rfl rfl rfl (Nat.le_of_ble_eq_true rfl) dX0_keep_8 ?_
  refine tw_aload_n X dX0_keep_11 rfl 0 rfl ?_
  refine tw_iconst (v := 1) X dX0_keep_12 rfl ?_
  obtain ⟨g2, hg2, hf⟩ := bnd hf
  refine kpX0_601_0 X (Or.inr rfl) hg2 dX0_keep_13 ?_
  refine tw_iconst (v := 1) X dX0_keep_16 rfl ?_
  exact tw_iret X hr (prj1 hf) (prj2 hf) dX0_keep_17
