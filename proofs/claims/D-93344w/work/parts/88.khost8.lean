/-! the host: wouldCost -/
set_option maxRecDepth 100000
section KHH
variable {p : Program} {l : Launch} {e0 : Env} {R : Room} {s : State} {m : MethodId} {args : Array Value} {below : List Frame} {meth : Method} {c : Code} {Q : State → Prop} {D : va_G} {A : Nat → Prop} {nL ce sl : Nat} {g : St} {pc : Nat} {lv : List (Nat × Value)} {st : List Value} {cc : ByteArray} {own : String} {K : Nat → Nat} {δ : Nat → ClassId} {sr ρ : Rf} {dy d1 d2 : va_W} {aK aV : Nat → Nat}
set_option maxHeartbeats 4000000 in
theorem kx_wouldCost_x (hl : l.stackTraces = false) {s0 n u : Nat} {i r : Int32} {g1 g3 : St} (hs : s0 < 4) (hn : n ≤ 20) (hu : RVs δ dy (va_rf (ρ 3 s0)) 0 (.inr u)) (h1 : kF_X3_become_5_3 g = some g1) (h2 : kF_X3_become_3_5 g1 = some g3) (hr0 : r = if u = 0 then -13 else -11) : CXW l yX0_wouldCost cX0_wouldCost 10 (some .int) hhWould 235 10400 70 22500 D vwCl (kT δ) A aK aV (kW K δ sr ρ dy) [.ref (K 0), .int (nI s0), .int i, .int (nI n)] g (SA D A K δ sr (upR ρ 0 2 (ρ 0 0)) dy g3 r) (fun _ _ _ => False) := by
  refine cxW_intro (own := RX0) (lv0 := [(0, .ref (K 0)), (1, .int (nI s0)), (2, .int i), (3, .int (nI n))]) (by decide) rfl (Nat.le_of_ble_eq_true rfl) rfl ?_
  intro p e s m args below meth c Y hr htab
  have X := Y.x
  refine tw_iload_n X dX0_wouldCost_0 rfl 1 rfl ?_
  refine tp_isShelf X ⟨Nat.le_of_ble_eq_true rfl, Nat.le_of_ble_eq_true rfl⟩ ⟨Nat.zero_le _, Nat.zero_le _⟩ (Nat.zero_le _) dX0_wouldCost_1 (fun _ => ?_)
  rw [is4 s0 hs]
  refine tw_if_eq (a := ()) (b := ()) (z := ()) (tgt := 17) X dX0_wouldCost_4 rfl (ite_self _) (fun z _ => absurd z (by decide)) (fun _ _ => ?_)
  refine tw_iload_n X dX0_wouldCost_7 rfl 3 rfl ?_
  refine tw_iconst (v := 0) X dX0_wouldCost_8 rfl ?_
  refine tw_bipush (v := 20) X dX0_wouldCost_9 rfl ?_
  refine tp_isIn X ⟨Nat.le_of_ble_eq_true rfl, Nat.le_of_ble_eq_true rfl⟩ ⟨Nat.zero_le _, Nat.zero_le _⟩ (Nat.zero_le _) dX0_wouldCost_11 (fun _ => ?_)
  rw [is20 n hn]
  refine tw_if_ne (a := ()) (b := ()) (z := ()) (tgt := 19) X dX0_wouldCost_14 rfl (ite_self _) (fun z _ => absurd z (by decide)) (fun _ _ => ?_)
  refine tw_aload_n X dX0_wouldCost_19 rfl 0 rfl ?_
  refine kgX0_54_0 X dX0_wouldCost_20 ?_
  refine tw_aload_n X dX0_wouldCost_23 rfl 0 rfl ?_
  refine kgX0_47_0 X dX0_wouldCost_24 ?_
  refine tw_callVv (As := [.ref (K 3)]) (st := []) X (kC_X3_become_5_3 h1) kGX0_502 kI_X3_become ⟨Nat.le_of_ble_eq_true rfl, Nat.le_of_ble_eq_true rfl⟩ ⟨Nat.zero_le _, Nat.zero_le _⟩ 5 rfl rfl rfl rfl (Nat.zero_le _) dX0_wouldCost_27 ?_
  refine tw_aload_n X dX0_wouldCost_30 rfl 0 rfl ?_
  refine kgX0_136_0 X dX0_wouldCost_31 ?_
  refine tw_iload_n X dX0_wouldCost_34 rfl 1 rfl ?_
  refine tr_sheet X hs dX0_wouldCost_35 ?_
  refine tr_getS X hs dX0_wouldCost_36 ?_
  refine tw_astoreV (v := va_rf (ρ 3 s0)) (lv' := (4, va_rf (ρ 3 s0)) :: [(0, .ref (K 0)), (1, .int (nI s0)), (2, .int i), (3, .int (nI n))]) X (rf_v _) dX0_wouldCost_39 (by decide) rfl ?_
  refine tw_aloadV X (rf_v _) dX0_wouldCost_41 0 rfl ?_
  refine tw_iconst (v := 0) X dX0_wouldCost_43 rfl ?_
  refine tx_callS (n := 2) (As := [va_rf (ρ 3 s0), .int (nI 0)]) (st := []) Y (kx_manyOf hl (by decide) hu) kGX0_548 kI_X0_manyOf ⟨Nat.le_of_ble_eq_true rfl, Nat.le_of_ble_eq_true rfl⟩ ⟨Nat.le_of_ble_eq_true rfl, Nat.le_of_ble_eq_true rfl⟩ rfl rfl (Nat.zero_le _) dX0_wouldCost_44 (fun E x t h => ?_) (fun w t h => ?_)
  · obtain ⟨u', e1, hx⟩ := h
    cases e1
    have u2 : ¬ u = 2 := by
      rcases hu with ⟨_, _, _, _, _, _, z⟩ | ⟨_, _, _, _, _, _, _, _, z⟩ | ⟨_, _, _, _, _, _, _, z⟩ | ⟨_, z⟩ <;> cases z <;> decide
    have hce : 0 + 3 ≤ 70 := by decide
    have hsl : 0 + 1010 ≤ 22500 := by decide
    refine tx_catch3 Y htab (fun _ _ => rfl) hx (fun z q => ?_) (fun z q => ?_) (fun z => absurd z u2)
    · rw [if_pos z] at hr0
      subst hr0
      refine tw_astoreV (v := .ref q) (lv' := (4, .ref q) :: [(0, .ref (K 0)), (1, .int (nI s0)), (2, .int i), (3, .int (nI n))]) X (Or.inr ⟨_, rfl⟩) dX0_wouldCost_164 (by decide) rfl ?_
      refine tw_bipush (v := -13) X dX0_wouldCost_166 rfl ?_
      refine tw_istore (lv' := (5, .int (-13)) :: (4, .ref q) :: [(0, .ref (K 0)), (1, .int (nI s0)), (2, .int i), (3, .int (nI n))]) X dX0_wouldCost_168 (by decide) rfl ?_
      refine tw_aload_n X dX0_wouldCost_170 rfl 2 rfl ?_
      refine kgX0_47_0 X dX0_wouldCost_171 ?_
      refine tw_aload_n X dX0_wouldCost_174 rfl 2 rfl ?_
      refine kgX0_54_0 X dX0_wouldCost_175 ?_
      refine tw_callVv (As := [.ref (K 5)]) (st := []) X (kC_X3_become_3_5 rfl h2) kGX0_502 kI_X3_become ⟨Nat.le_of_ble_eq_true rfl, Nat.le_of_ble_eq_true rfl⟩ ⟨hce, hsl⟩ 3 rfl rfl rfl rfl (Nat.zero_le _) dX0_wouldCost_178 ?_
      refine tw_iload X dX0_wouldCost_181 0 rfl ?_
      exact tx_iret X hr hce hsl (fun t b => ⟨rfl, b⟩) dX0_wouldCost_183
    · rw [if_neg (by omega)] at hr0
      subst hr0
      refine tw_astoreV (v := .ref q) (lv' := (4, .ref q) :: [(0, .ref (K 0)), (1, .int (nI s0)), (2, .int i), (3, .int (nI n))]) X (Or.inr ⟨_, rfl⟩) dX0_wouldCost_184 (by decide) rfl ?_
      refine tw_bipush (v := -11) X dX0_wouldCost_186 rfl ?_
      refine tw_istore (lv' := (5, .int (-11)) :: (4, .ref q) :: [(0, .ref (K 0)), (1, .int (nI s0)), (2, .int i), (3, .int (nI n))]) X dX0_wouldCost_188 (by decide) rfl ?_
      refine tw_aload_n X dX0_wouldCost_190 rfl 2 rfl ?_
      refine kgX0_47_0 X dX0_wouldCost_191 ?_
      refine tw_aload_n X dX0_wouldCost_194 rfl 2 rfl ?_
      refine kgX0_54_0 X dX0_wouldCost_195 ?_
      refine tw_callVv (As := [.ref (K 5)]) (st := []) X (kC_X3_become_3_5 rfl h2) kGX0_502 kI_X3_become ⟨Nat.le_of_ble_eq_true rfl, Nat.le_of_ble_eq_true rfl⟩ ⟨hce, hsl⟩ 3 rfl rfl rfl rfl (Nat.zero_le _) dX0_wouldCost_198 ?_
      refine tw_iload X dX0_wouldCost_201 0 rfl ?_
      exact tx_iret X hr hce hsl (fun t b => ⟨rfl, b⟩) dX0_wouldCost_203
  · obtain ⟨N, e1, _⟩ := h
    cases e1
set_option maxHeartbeats 4000000 in
theorem kx_wouldCost (hl : l.stackTraces = false) {E : EE} (hE : EOK δ ρ dy E) {s0 n q N : Nat} {f : Nat → Int32} {i r : Int32} {g1 g2 g3 : St} (hs : s0 < 4) (hn : n ≤ 20) (hρ : ρ 3 s0 = some q) (hm : (q, shE δ 0 N f) ∈ dy) (hN : N ≤ 40) (h1 : kF_X3_become_5_3 g = some g1) (hf : wcF E f N i n 0 0 g1 = some (r, g2)) (h2 : kF_X3_become_3_5 g2 = some g3) : CXW l yX0_wouldCost cX0_wouldCost 10 (some .int) hhWould 235 10400 70 22500 D vwCl (kT δ) A aK aV (kW K δ sr ρ dy) [.ref (K 0), .int (nI s0), .int i, .int (nI n)] g (SA D A K δ sr (upR ρ 0 2 (ρ 0 0)) dy g3 r) (fun _ _ _ => False) := by
  have hE : EOK δ (upR ρ 0 2 (ρ 0 0)) dy E := ⟨hE.1, hE.2.1, hE.2.2.1, hE.2.2.2⟩
  refine cxW_intro (own := RX0) (lv0 := [(0, .ref (K 0)), (1, .int (nI s0)), (2, .int i), (3, .int (nI n))]) (by decide) rfl (Nat.le_of_ble_eq_true rfl) rfl ?_
  intro p e s m args below meth c Y hr htab
  have X := Y.x
  refine tw_iload_n X dX0_wouldCost_0 rfl 1 rfl ?_
  refine tp_isShelf X ⟨Nat.le_of_ble_eq_true rfl, Nat.le_of_ble_eq_true rfl⟩ ⟨Nat.zero_le _, Nat.zero_le _⟩ (Nat.zero_le _) dX0_wouldCost_1 (fun _ => ?_)
  rw [is4 s0 hs]
  refine tw_if_eq (a := ()) (b := ()) (z := ()) (tgt := 17) X dX0_wouldCost_4 rfl (ite_self _) (fun z _ => absurd z (by decide)) (fun _ _ => ?_)
  refine tw_iload_n X dX0_wouldCost_7 rfl 3 rfl ?_
  refine tw_iconst (v := 0) X dX0_wouldCost_8 rfl ?_
  refine tw_bipush (v := 20) X dX0_wouldCost_9 rfl ?_
  refine tp_isIn X ⟨Nat.le_of_ble_eq_true rfl, Nat.le_of_ble_eq_true rfl⟩ ⟨Nat.zero_le _, Nat.zero_le _⟩ (Nat.zero_le _) dX0_wouldCost_11 (fun _ => ?_)
  rw [is20 n hn]
  refine tw_if_ne (a := ()) (b := ()) (z := ()) (tgt := 19) X dX0_wouldCost_14 rfl (ite_self _) (fun z _ => absurd z (by decide)) (fun _ _ => ?_)
  refine tw_aload_n X dX0_wouldCost_19 rfl 0 rfl ?_
  refine kgX0_54_0 X dX0_wouldCost_20 ?_
  refine tw_aload_n X dX0_wouldCost_23 rfl 0 rfl ?_
  refine kgX0_47_0 X dX0_wouldCost_24 ?_
  refine tw_callVv (As := [.ref (K 3)]) (st := []) X (kC_X3_become_5_3 h1) kGX0_502 kI_X3_become ⟨Nat.le_of_ble_eq_true rfl, Nat.le_of_ble_eq_true rfl⟩ ⟨Nat.zero_le _, Nat.zero_le _⟩ 5 rfl rfl rfl rfl (Nat.zero_le _) dX0_wouldCost_27 ?_
  refine tw_aload_n X dX0_wouldCost_30 rfl 0 rfl ?_
  refine kgX0_136_0 X dX0_wouldCost_31 ?_
  refine tw_iload_n X dX0_wouldCost_34 rfl 1 rfl ?_
  refine tr_sheet X hs dX0_wouldCost_35 ?_
  refine tr_getS X hs dX0_wouldCost_36 ?_
  rw [show (upR ρ 0 2 (ρ 0 0)) 3 s0 = some q from hρ]
  refine tw_astore (lv' := (4, .ref q) :: [(0, .ref (K 0)), (1, .int (nI s0)), (2, .int i), (3, .int (nI n))]) X dX0_wouldCost_39 (by decide) rfl ?_
  refine tw_aload X dX0_wouldCost_41 0 rfl ?_
  refine tw_iconst (v := 0) X dX0_wouldCost_43 rfl ?_
  refine tx_callS (n := 2) (As := [.ref q, .int (nI 0)]) (st := []) Y (kx_manyOf hl (by decide) (Or.inl ⟨q, N, f, rfl, hm, hN, rfl⟩)) kGX0_548 kI_X0_manyOf ⟨Nat.le_of_ble_eq_true rfl, Nat.le_of_ble_eq_true rfl⟩ ⟨Nat.le_of_ble_eq_true rfl, Nat.le_of_ble_eq_true rfl⟩ rfl rfl (Nat.zero_le _) dX0_wouldCost_44 (fun E x t h => ?_) (fun w t h => ?_)
  · obtain ⟨u, e1, _⟩ := h
    cases e1
  obtain ⟨N', e1, rfl, hb⟩ := h
  cases e1
  refine TW.at ?_ hb
  refine tw_istore (lv' := (5, .int (nI N)) :: (4, .ref q) :: [(0, .ref (K 0)), (1, .int (nI s0)), (2, .int i), (3, .int (nI n))]) X dX0_wouldCost_47 (by decide) rfl ?_
  refine tw_iconst (v := 0) X dX0_wouldCost_49 rfl ?_
  refine tw_istore (lv' := (6, .int 0) :: (5, .int (nI N)) :: (4, .ref q) :: [(0, .ref (K 0)), (1, .int (nI s0)), (2, .int i), (3, .int (nI n))]) X dX0_wouldCost_50 (by decide) rfl ?_
  refine tw_iconst (v := 0) X dX0_wouldCost_52 rfl ?_
  refine tw_istore (lv' := (7, .int (nI 0)) :: (6, .int 0) :: (5, .int (nI N)) :: (4, .ref q) :: [(0, .ref (K 0)), (1, .int (nI s0)), (2, .int i), (3, .int (nI n))]) X dX0_wouldCost_53 (by decide) rfl ?_
  have refuse : ∀ (ce sl : Nat) (hce : ce ≤ 70) (hsl : sl ≤ 22500) (g : St) (ans : Int32) (lv : List (Nat × Value)) (pc : Nat) (ks : List Nat), ans = r → up2 g 35 0 ans = g2 → lv_pick lv ks = (4, .ref q) :: [(0, .ref (K 0)), (1, .int (nI s0)), (2, .int i), (3, .int (nI n))] → TW p l e (romX 235 10400 70 22500) s m args below meth c (vx_MQ below (QO A (SA D A K δ sr (upR ρ 0 2 (ρ 0 0)) dy g3 r)) (XO A (fun _ _ _ => False)) args s 70 22500 A) D vwCl A (kW K δ sr (upR ρ 0 2 (ρ 0 0)) dy) 10 ce sl (up2 g 35 0 ans) 204 lv [.ref (K 1)] := by
    intro ce sl hce hsl g ans lv pc ks hans hg hks
    subst hans
    subst hg
    refine tw_sub ks hks ?_
    refine tw_astore (lv' := (4, .ref (K 1)) :: [(0, .ref (K 0)), (1, .int (nI s0)), (2, .int i), (3, .int (nI n))]) X dX0_wouldCost_204 (by decide) rfl ?_
    refine tw_aload X dX0_wouldCost_206 0 rfl ?_
    refine kg_ansR X dX0_wouldCost_208 ?_
    rw [up35]
    refine tw_istore (lv' := (5, .int ans) :: (4, .ref (K 1)) :: [(0, .ref (K 0)), (1, .int (nI s0)), (2, .int i), (3, .int (nI n))]) X dX0_wouldCost_211 (by decide) rfl ?_
    refine tw_aload_n X dX0_wouldCost_213 rfl 2 rfl ?_
    refine kgX0_47_0 X dX0_wouldCost_214 ?_
    refine tw_aload_n X dX0_wouldCost_217 rfl 2 rfl ?_
    refine kgX0_54_0 X dX0_wouldCost_218 ?_
    refine tw_callVv (As := [.ref (K 5)]) (st := []) X (kC_X3_become_3_5 rfl h2) kGX0_502 kI_X3_become ⟨Nat.le_of_ble_eq_true rfl, Nat.le_of_ble_eq_true rfl⟩ ⟨hce, hsl⟩ 3 rfl rfl rfl rfl (Nat.zero_le _) dX0_wouldCost_221 ?_
    refine tw_iload X dX0_wouldCost_224 0 rfl ?_
    exact tx_iret X hr hce hsl (fun t b => ⟨rfl, b⟩) dX0_wouldCost_226
  have loop : ∀ (mm k : Nat) (cost : Int32) (g : St), k + mm = n → wcF E f N i mm k cost g = some (r, g2) → TW p l e (romX 235 10400 70 22500) s m args below meth c (vx_MQ below (QO A (SA D A K δ sr (upR ρ 0 2 (ρ 0 0)) dy g3 r)) (XO A (fun _ _ _ => False)) args s 70 22500 A) D vwCl A (kW K δ sr (upR ρ 0 2 (ρ 0 0)) dy) 10 (3 * k + 3) (1010 * k + 1010) g 55 [(7, .int (nI k)), (6, .int cost), (5, .int (nI N)), (4, .ref q), (0, .ref (K 0)), (1, .int (nI s0)), (2, .int i), (3, .int (nI n))] [] := by
    intro mm
    induction mm with
    | zero =>
      intro k cost g hk hf
      have hr2 : (cost, g) = (r, g2) := Option.some.inj hf
      cases hr2
      have hce : 3 * k + 3 ≤ 70 := by omega
      have hsl : 1010 * k + 1010 ≤ 22500 := by omega
      refine tw_iload X dX0_wouldCost_55 0 rfl ?_
      refine tw_iload_n X dX0_wouldCost_57 rfl 7 rfl ?_
      refine tw_icmp_ge (a := ()) (b := ()) (z := ()) (tgt := 146) X dX0_wouldCost_58 rfl (ite_self _) (fun _ _ => ?_) (fun z _ => absurd (nI_le (by omega) (by omega)) z)
      refine tw_iload X dX0_wouldCost_146 1 rfl ?_
      refine tw_istore (lv' := (7, .int r) :: [(6, .int r), (5, .int (nI N)), (4, .ref q), (0, .ref (K 0)), (1, .int (nI s0)), (2, .int i), (3, .int (nI n))]) X dX0_wouldCost_148 (by decide) rfl ?_
      refine tw_aload_n X dX0_wouldCost_150 rfl 4 rfl ?_
      refine kgX0_47_0 X dX0_wouldCost_151 ?_
      refine tw_aload_n X dX0_wouldCost_154 rfl 4 rfl ?_
      refine kgX0_54_0 X dX0_wouldCost_155 ?_
      refine tw_callVv (As := [.ref (K 5)]) (st := []) X (kC_X3_become_3_5 rfl h2) kGX0_502 kI_X3_become ⟨Nat.le_of_ble_eq_true rfl, Nat.le_of_ble_eq_true rfl⟩ ⟨hce, hsl⟩ 3 rfl rfl rfl rfl (Nat.zero_le _) dX0_wouldCost_158 ?_
      refine tw_iload X dX0_wouldCost_161 0 rfl ?_
      exact tx_iret X hr hce hsl (fun t b => ⟨rfl, b⟩) dX0_wouldCost_163
    | succ mm ih =>
      intro k cost g hk hf
      have hce : 3 * k + 3 + 0 + 3 ≤ 70 := by omega
      have hsl : 1010 * k + 1010 + 0 + 1010 ≤ 22500 := by omega
      unfold wcF at hf
      refine tw_iload X dX0_wouldCost_55 0 rfl ?_
      refine tw_iload_n X dX0_wouldCost_57 rfl 7 rfl ?_
      refine tw_icmp_ge (a := ()) (b := ()) (z := ()) (tgt := 146) X dX0_wouldCost_58 rfl (ite_self _) (fun z _ => absurd z (nI_ge (by omega) (by omega))) (fun _ _ => ?_)
      refine tw_aload_n X dX0_wouldCost_61 rfl 4 rfl ?_
      have out : (i < 0 ∨ nI N - 1 - nI k < i) → TW p l e (romX 235 10400 70 22500) s m args below meth c (vx_MQ below (QO A (SA D A K δ sr (upR ρ 0 2 (ρ 0 0)) dy g3 r)) (XO A (fun _ _ _ => False)) args s 70 22500 A) D vwCl A (kW K δ sr (upR ρ 0 2 (ρ 0 0)) dy) 10 (3 * k + 3) (1010 * k + 1010) g 81 [(7, .int (nI k)), (6, .int cost), (5, .int (nI N)), (4, .ref q), (0, .ref (K 0)), (1, .int (nI s0)), (2, .int i), (3, .int (nI n))] [.ref (K 0)] := by
        intro ho
        rw [if_pos ho] at hf
        have hr2 := Option.some.inj hf
        cases hr2
        refine tw_iconst (v := 0) X dX0_wouldCost_81 rfl ?_
        refine tw_bipush (v := -12) X dX0_wouldCost_82 rfl ?_
        refine tx_callV (n := 2) (b := K 0) (As := [.int 0, .int (-12)]) (st := []) Y (kx_must 0 (-12) (Or.inl rfl)) kGX0_536 kI_X0_must ⟨Nat.le_of_ble_eq_true rfl, Nat.le_of_ble_eq_true rfl⟩ ⟨show 3 * k + 3 + 0 ≤ 70 by omega, show 1010 * k + 1010 + 0 ≤ 22500 by omega⟩ 0 rfl rfl rfl rfl (Nat.zero_le _) dX0_wouldCost_84 (fun E x t h => ?_) (fun v t h => absurd rfl h.1)
        exact tx_catch3 Y htab (fun _ _ => rfl) h.2 (fun z => by cases z) (fun z => by cases z) (fun z => refuse _ _ (by omega) (by omega) g (-12) _ 204 [3, 4, 5, 6, 7] rfl rfl rfl)
      refine tw_iload_n X dX0_wouldCost_62 rfl 6 rfl ?_
      refine tw_if_lt (a := ()) (b := ()) (z := ()) (tgt := 81) X dX0_wouldCost_63 rfl (ite_self _) (fun z _ => out (Or.inl z)) (fun z1 _ => ?_)
      refine tw_iload_n X dX0_wouldCost_66 rfl 6 rfl ?_
      refine tw_iload X dX0_wouldCost_67 2 rfl ?_
      refine tw_iconst (v := 1) X dX0_wouldCost_69 rfl ?_
      refine tw_isub X dX0_wouldCost_70 ?_
      refine tw_iload X dX0_wouldCost_71 0 rfl ?_
      refine tw_isub X dX0_wouldCost_73 ?_
      refine tw_icmp_gt (a := ()) (b := ()) (z := ()) (tgt := 81) X dX0_wouldCost_74 rfl (ite_self _) (fun z _ => out (Or.inr z)) (fun z2 _ => ?_)
      rw [if_neg (fun z => z.elim z1 z2)] at hf
      obtain ⟨j, hij, hj⟩ := rng_in hN (by omega) z1 z2
      rw [hij, nI_clamp (by omega), ← hij] at hf
      refine tw_iconst (v := 1) X dX0_wouldCost_77 rfl ?_
      refine tw_goto (tgt := 82) X dX0_wouldCost_78 rfl ?_
      refine tw_bipush (v := -12) X dX0_wouldCost_82 rfl ?_
      refine tx_callV (n := 2) (b := K 0) (As := [.int 1, .int (-12)]) (st := []) Y (kx_must 1 (-12) (Or.inr rfl)) kGX0_536 kI_X0_must ⟨Nat.le_of_ble_eq_true rfl, Nat.le_of_ble_eq_true rfl⟩ ⟨show 3 * k + 3 + 0 ≤ 70 by omega, show 1010 * k + 1010 + 0 ≤ 22500 by omega⟩ 0 rfl rfl rfl rfl (Nat.zero_le _) dX0_wouldCost_84 (fun E x t h => absurd h.1 (by decide)) (fun v t h => ?_)
      obtain ⟨_, rfl, hb2⟩ := h
      refine TW.at ?_ hb2
      refine tw_aload_n X dX0_wouldCost_87 rfl 4 rfl ?_
      refine tw_aload X dX0_wouldCost_88 3 rfl ?_
      refine tw_iconst (v := 0) X dX0_wouldCost_90 rfl ?_
      refine tw_iload_n X dX0_wouldCost_91 rfl 6 rfl ?_
      refine tw_iload X dX0_wouldCost_92 0 rfl ?_
      refine tw_iadd X dX0_wouldCost_94 ?_
      rw [show i + nI k = nI (j + k) by rw [hij, nI_add]]
      refine tx_callV (n := 3) (b := K 0) (As := [.ref q, .int (nI 0), .int (nI (j + k))]) (st := []) Y (kx_itemOf hl (by decide) hm hN (nI (j + k))) kGX0_552 kI_X0_itemOf ⟨Nat.le_of_ble_eq_true rfl, Nat.le_of_ble_eq_true rfl⟩ ⟨hce, hsl⟩ 0 rfl rfl rfl rfl (Nat.zero_le _) dX0_wouldCost_95 (fun E x t h => ?_) (fun v t h => ?_)
      · exfalso
        have h3 := h.1
        unfold kF_isIn at h3
        rw [if_neg (nI_pos (by omega)), nI_m1 (by omega), if_neg (nI_nlt (by omega) (by omega))] at h3
        exact absurd h3 (by decide)
      obtain ⟨j2, hj2, hjj, rfl, hb3⟩ := h
      rw [nI_eq (by omega) (by omega)] at hjj
      subst hjj
      refine TW.at ?_ hb3
      refine tw_istore (lv' := (8, .int (f (j + k))) :: [(7, .int (nI k)), (6, .int cost), (5, .int (nI N)), (4, .ref q), (0, .ref (K 0)), (1, .int (nI s0)), (2, .int i), (3, .int (nI n))]) X dX0_wouldCost_98 (by decide) rfl ?_
      refine tw_aload_n X dX0_wouldCost_100 rfl 5 rfl ?_
      refine tw_aload_n X dX0_wouldCost_101 rfl 5 rfl ?_
      refine tw_iload X dX0_wouldCost_102 0 rfl ?_
      obtain ⟨z, hz, hf⟩ := bd_some hf
      refine tw_callVz (As := [.int (f (j + k))]) (st := [.ref (K 0)]) X (kC_isChange hz) kGX0_376 kI_X0_isChange ⟨Nat.le_of_ble_eq_true rfl, Nat.le_of_ble_eq_true rfl⟩ ⟨hce, hsl⟩ 0 rfl rfl rfl rfl (Nat.le_of_ble_eq_true rfl) dX0_wouldCost_104 (fun _ => ?_)
      have no : ∀ g : St, (-4 : Int32) = r → up2 g 35 0 (-4) = g2 → TW p l e (romX 235 10400 70 22500) s m args below meth c (vx_MQ below (QO A (SA D A K δ sr (upR ρ 0 2 (ρ 0 0)) dy g3 r)) (XO A (fun _ _ _ => False)) args s 70 22500 A) D vwCl A (kW K δ sr (upR ρ 0 2 (ρ 0 0)) dy) 10 (3 * k + 3 + 0 + 3) (1010 * k + 1010 + 0 + 1010) g 123 ((8, .int (f (j + k))) :: [(7, .int (nI k)), (6, .int cost), (5, .int (nI N)), (4, .ref q), (0, .ref (K 0)), (1, .int (nI s0)), (2, .int i), (3, .int (nI n))]) [.ref (K 0)] := by
        intro g hra hga
        refine tw_iconst (v := 0) X dX0_wouldCost_123 rfl ?_
        refine tw_bipush (v := -4) X dX0_wouldCost_124 rfl ?_
        refine tx_callV (n := 2) (b := K 0) (As := [.int 0, .int (-4)]) (st := []) Y (kx_must 0 (-4) (Or.inl rfl)) kGX0_536 kI_X0_must ⟨Nat.le_of_ble_eq_true rfl, Nat.le_of_ble_eq_true rfl⟩ ⟨show 3 * k + 3 + 0 + 3 + 0 ≤ 70 by omega, show 1010 * k + 1010 + 0 + 1010 + 0 ≤ 22500 by omega⟩ 0 rfl rfl rfl rfl (Nat.zero_le _) dX0_wouldCost_126 (fun E x t h => ?_) (fun v t h => absurd rfl h.1)
        exact tx_catch3 Y htab (fun _ _ => rfl) h.2 (fun z => by cases z) (fun z => by cases z) (fun z => refuse _ _ (by omega) (by omega) g (-4) _ 204 [4, 5, 6, 7, 8] hra hga rfl)
      refine tw_if_eq (a := ()) (b := ()) (z := ()) (tgt := 123) X dX0_wouldCost_107 rfl (ite_self _) (fun w _ => ?_) (fun w _ => ?_)
      · rw [if_pos w] at hf
        have hr2 := Option.some.inj hf
        cases hr2
        exact no g rfl rfl
      · rw [if_neg w] at hf
        obtain ⟨r1, hr1, hf⟩ := bd_some hf
        refine tw_aload_n X dX0_wouldCost_110 rfl 5 rfl ?_
        refine tw_iload X dX0_wouldCost_111 0 rfl ?_
        refine tw_callVz (As := [.int (f (j + k))]) (st := [.ref (K 0)]) X (kC_can hE hr1) kGX0_389 kI_X0_can ⟨Nat.le_of_ble_eq_true rfl, Nat.le_of_ble_eq_true rfl⟩ ⟨hce, hsl⟩ 0 rfl rfl rfl rfl (Nat.le_of_ble_eq_true rfl) dX0_wouldCost_113 (fun _ => ?_)
        refine tw_if_eq (a := ()) (b := ()) (z := ()) (tgt := 123) X dX0_wouldCost_116 rfl (ite_self _) (fun w2 _ => ?_) (fun w2 _ => ?_)
        · rw [if_pos w2] at hf
          have hr2 := Option.some.inj hf
          cases hr2
          exact no r1.2 rfl rfl
        · rw [if_neg w2] at hf
          obtain ⟨r2, hr2, hf⟩ := bd_some hf
          refine tw_iconst (v := 1) X dX0_wouldCost_119 rfl ?_
          refine tw_goto (tgt := 124) X dX0_wouldCost_120 rfl ?_
          refine tw_bipush (v := -4) X dX0_wouldCost_124 rfl ?_
          refine tx_callV (n := 2) (b := K 0) (As := [.int 1, .int (-4)]) (st := []) Y (kx_must 1 (-4) (Or.inr rfl)) kGX0_536 kI_X0_must ⟨Nat.le_of_ble_eq_true rfl, Nat.le_of_ble_eq_true rfl⟩ ⟨show 3 * k + 3 + 0 + 3 + 0 ≤ 70 by omega, show 1010 * k + 1010 + 0 + 1010 + 0 ≤ 22500 by omega⟩ 0 rfl rfl rfl rfl (Nat.zero_le _) dX0_wouldCost_126 (fun E x t h => absurd h.1 (by decide)) (fun v t h => ?_)
          obtain ⟨_, rfl, hb4⟩ := h
          refine TW.at ?_ hb4
          refine tw_iload X dX0_wouldCost_129 2 rfl ?_
          refine tw_aload_n X dX0_wouldCost_131 rfl 5 rfl ?_
          refine tw_iload X dX0_wouldCost_132 0 rfl ?_
          refine tw_callVi (As := [.int (f (j + k))]) (st := [.int cost]) X (kC_carry hE hr2) kGX0_392 kI_X0_carry ⟨Nat.le_of_ble_eq_true rfl, Nat.le_of_ble_eq_true rfl⟩ ⟨hce, hsl⟩ 0 rfl rfl rfl rfl (Nat.le_of_ble_eq_true rfl) dX0_wouldCost_134 ?_
          refine tw_iadd X dX0_wouldCost_137 ?_
          refine tw_istore (lv' := (6, .int (cost + r2.1)) :: (8, .int (f (j + k))) :: [(7, .int (nI k)), (5, .int (nI N)), (4, .ref q), (0, .ref (K 0)), (1, .int (nI s0)), (2, .int i), (3, .int (nI n))]) X dX0_wouldCost_138 (by decide) rfl ?_
          refine tw_sub [2, 0, 3, 4, 5, 6, 7, 8] (lv' := [(7, .int (nI k)), (6, .int (cost + r2.1)), (5, .int (nI N)), (4, .ref q), (0, .ref (K 0)), (1, .int (nI s0)), (2, .int i), (3, .int (nI n))]) rfl ?_
          refine tw_iinc (q := 0) (v := nI (k + 1)) (lv' := [(7, .int (nI (k + 1))), (6, .int (cost + r2.1)), (5, .int (nI N)), (4, .ref q), (0, .ref (K 0)), (1, .int (nI s0)), (2, .int i), (3, .int (nI n))]) X dX0_wouldCost_140 rfl (nI_1 k) (by decide) rfl ?_
          refine tw_goto (tgt := 55) X dX0_wouldCost_143 rfl ?_
          exact tx_widen (by omega) (by omega) (ih (k + 1) (cost + r2.1) r2.2 (by omega) hf)
  exact tx_widen (by omega) (by omega) (loop n 0 0 g1 (by omega) hf)
end KHH
