/-! again: the kept town comes back, its people are made anew -/
set_option maxRecDepth 100000
/-- the first k people's objects were made anew -/
def RA (k : Nat) (g : St) (ρ0 : Rf) (dy : va_W) (ρ' : Rf) (dy' : va_W) : Prop := (∃ ext, dy' = dy ++ ext) ∧ (∀ b, b ≠ 1 → ρ' b = ρ0 b) ∧ (∀ i, k ≤ i → ρ' 1 i = ρ0 1 i) ∧ ∀ i, i < k → ∃ q kd, 1 ≤ kd ∧ kd ≤ 5 ∧ g 45 i = nI kd ∧ ρ' 1 i = some q ∧ (q, (.inr (6 + kd, [.int (nI i), .int (g 47 i)]) : va_E)) ∈ dy'
theorem RA.one {k kd q : Nat} {g : St} {ρ0 ρ' : Rf} {dy dy' : va_W} (h : RA k g ρ0 dy ρ' dy') (h1 : 1 ≤ kd) (h5 : kd ≤ 5) (hk : g 45 k = nI kd) : RA (k + 1) g ρ0 dy (upR ρ' 1 k (some q)) (dy' ++ [(q, .inr (6 + kd, [.int (nI k), .int (g 47 k)]))]) := by
  obtain ⟨⟨ext, a1⟩, a2, a3, a4⟩ := h
  refine ⟨⟨ext ++ [(q, .inr (6 + kd, [.int (nI k), .int (g 47 k)]))], by rw [a1, List.append_assoc]⟩, fun b hb => ?_, fun i hi => ?_, fun i hi => ?_⟩
  · unfold upR
    rw [if_neg hb]
    exact a2 b hb
  · show (if i = k then some q else ρ' 1 i) = _
    rw [if_neg (by omega)]
    exact a3 i (by omega)
  · by_cases e : i = k
    · subst e
      refine ⟨q, kd, h1, h5, hk, ?_, by simp⟩
      show (if i = i then some q else ρ' 1 i) = _
      rw [if_pos rfl]
    · obtain ⟨q', kd', b1, b2, b3, b4, b5⟩ := a4 i (by omega)
      refine ⟨q', kd', b1, b2, b3, ?_, List.mem_append_left _ b5⟩
      show (if i = k then some q else ρ' 1 i) = _
      rw [if_neg e]
      exact b4
section KAG
variable {l : Launch} {D : va_G} {A : Nat → Prop} {K : Nat → Nat} {δ : Nat → ClassId} {sr ρ : Rf} {dy : va_W} {g : St} {aK aV : Nat → Nat}
theorem kC_again0 (h : g 0 6 = 0) : CX l yX0_again cX0_again 2 (some .int) 6 181 6 12 D vwCl (kT δ) A aK aV (kW K δ sr ρ dy) [.ref (K 0)] g (fun v t => v = some (.int (-3)) ∧ BW D vwCl A (kW K δ sr ρ dy) g t) (fun _ _ _ => False) := by
  refine cx_intro (own := RX0) (lv0 := [(0, .ref (K 0))]) (by decide) rfl (Nat.le_of_ble_eq_true rfl) rfl ?_
  intro p e s m args below meth c Y hr hmn htab
  have X := Y.x
  refine tw_aload_n X dX0_again_0 rfl 0 rfl ?_
  refine kgX0_601_0 X dX0_again_1 ?_
  refine tw_if_ne (a := ()) (b := ()) (z := ()) (tgt := 10) X dX0_again_4 rfl (ite_self _) (fun _ _ => ?_) (fun q _ => absurd h q)
  refine tw_bipush (v := -3) X dX0_again_7 rfl ?_
  exact tx_iret X hr (Nat.zero_le _) (Nat.zero_le _) (fun t b => ⟨rfl, b⟩) dX0_again_9
theorem kC_again1 (h : ¬ g 0 6 = 0) {g1 : St} (hf : kF_X3_become_3_4 g = some g1) {n : Nat} (hn : n ≤ 6) (h40 : g1 40 0 = nI n) (hk : ∀ i, i < n → ∃ kd, 1 ≤ kd ∧ kd ≤ 5 ∧ g1 45 i = nI kd) : CX l yX0_again cX0_again 2 (some .int) 6 181 6 12 D vwCl (kT δ) A aK aV (kW K δ sr ρ dy) [.ref (K 0)] g (fun v t => v = some (.int (nI n)) ∧ ∃ ρ' dy', BW D vwCl A (kW K δ sr ρ' dy') g1 t ∧ RA n g1 (upR ρ 0 0 (ρ 0 1)) dy ρ' dy') (fun _ _ _ => False) := by
  refine cx_intro (own := RX0) (lv0 := [(0, .ref (K 0))]) (by decide) rfl (Nat.le_of_ble_eq_true rfl) rfl ?_
  intro p e s m args below meth c Y hr hmn htab
  have X := Y.x
  refine tw_aload_n X dX0_again_0 rfl 0 rfl ?_
  refine kgX0_601_0 X dX0_again_1 ?_
  refine tw_if_ne (a := ()) (b := ()) (z := ()) (tgt := 10) X dX0_again_4 rfl (ite_self _) (fun q _ => absurd q h) (fun _ _ => ?_)
  refine tw_aload_n X dX0_again_10 rfl 0 rfl ?_
  refine kgX0_47_0 X dX0_again_11 ?_
  refine tw_aload_n X dX0_again_14 rfl 0 rfl ?_
  refine kgX0_51_0 X dX0_again_15 ?_
  refine tw_callVv (As := [.ref (K 4)]) (st := []) X (kC_X3_become_3_4 hf) kGX0_502 kI_X3_become ⟨Nat.le_of_ble_eq_true rfl, Nat.le_of_ble_eq_true rfl⟩ ⟨Nat.zero_le _, Nat.zero_le _⟩ 3 rfl rfl rfl rfl (Nat.le_of_ble_eq_true rfl) dX0_again_18 ?_
  refine tw_iconst (v := 0) X dX0_again_21 rfl ?_
  refine tw_istore_n (lv' := [(1, .int 0), (0, .ref (K 0))]) X dX0_again_22 rfl (by decide) rfl ?_
  have loop : ∀ (mm k : Nat) (ρ' : Rf) (dy' : va_W), k + mm = n → RA k g1 (upR ρ 0 0 (ρ 0 1)) dy ρ' dy' → TW p l e (romX 6 181 6 12) s m args below meth c (vx_MQ below (QO A (fun v t => v = some (.int (nI n)) ∧ ∃ ρ' dy', BW D vwCl A (kW K δ sr ρ' dy') g1 t ∧ RA n g1 (upR ρ 0 0 (ρ 0 1)) dy ρ' dy')) (XO A (fun _ _ _ => False)) args s 6 12 A) D vwCl A (kW K δ sr ρ' dy') 2 k (2 * k) g1 23 [(1, .int (nI k)), (0, .ref (K 0))] [] := by
    intro mm
    induction mm with
    | zero =>
      intro k ρ' dy' hk0 hra
      have e0 : k = n := by omega
      subst e0
      refine tw_iload_n X dX0_again_23 rfl 0 rfl ?_
      refine tw_aload_n X dX0_again_24 rfl 1 rfl ?_
      refine kgX0_47_0 X dX0_again_25 ?_
      refine kgX0_147_3 X dX0_again_28 ?_
      refine tw_icmp_ge (a := ()) (b := ()) (z := ()) (tgt := 45) X dX0_again_31 rfl (ite_self _) (fun _ _ => ?_) (fun q _ => absurd (by rw [h40]; exact nI_le (Nat.le_refl _) (by omega)) q)
      refine tw_aload_n X dX0_again_45 rfl 1 rfl ?_
      refine kgX0_47_0 X dX0_again_46 ?_
      refine kgX0_147_3 X dX0_again_49 ?_
      exact tx_iret X hr (by omega) (by omega) (fun t b => ⟨by rw [h40], ρ', dy', b, hra⟩) dX0_again_52
    | succ mm ih =>
      intro k ρ' dy' hk0 hra
      obtain ⟨kd, k1, k5, kk⟩ := hk k (by omega)
      refine tw_iload_n X dX0_again_23 rfl 0 rfl ?_
      refine tw_aload_n X dX0_again_24 rfl 1 rfl ?_
      refine kgX0_47_0 X dX0_again_25 ?_
      refine kgX0_147_3 X dX0_again_28 ?_
      refine tw_icmp_ge (a := ()) (b := ()) (z := ()) (tgt := 45) X dX0_again_31 rfl (ite_self _) (fun q _ => absurd q (by rw [h40]; exact nI_ge (by omega) (by omega))) (fun _ _ => ?_)
      refine tw_aload_n X dX0_again_34 rfl 1 rfl ?_
      refine tw_iload_n X dX0_again_35 rfl 0 rfl ?_
      refine tk_renew Y (rnO_n (by omega) kk k1 k5) ⟨Nat.le_of_ble_eq_true rfl, Nat.le_of_ble_eq_true rfl⟩ ⟨show k + 1 ≤ 6 by omega, show 2 * k + 2 ≤ 12 by omega⟩ (Nat.le_of_ble_eq_true rfl) dX0_again_36 (fun q => ?_)
      refine tw_iinc (q := 0) (v := nI (k + 1)) (lv' := [(1, .int (nI (k + 1))), (0, .ref (K 0))]) X dX0_again_39 rfl (nI_1 k) (by decide) rfl ?_
      refine tw_goto (tgt := 23) X dX0_again_42 rfl ?_
      exact ih (k + 1) _ _ (by omega) (hra.one k1 k5 kk)
  exact loop n 0 _ _ (by omega) ⟨⟨[], by simp⟩, fun _ _ => rfl, fun _ _ => rfl, fun i hi => by omega⟩
end KAG
