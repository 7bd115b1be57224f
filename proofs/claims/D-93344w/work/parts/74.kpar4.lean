/-! the component's parser: or-rows, single conditions -/
set_option maxRecDepth 100000
section KP4
variable {p : Program} {l : Launch} {e0 : Env} {R : Room} {s : State} {m : MethodId} {args : Array Value} {below : List Frame} {meth : Method} {c : Code} {Q : State → Prop} {D : va_G} {A : Nat → Prop} {nL ce sl : Nat} {g : St} {pc : Nat} {lv : List (Nat × Value)} {st : List Value} {cc : ByteArray} {K : Nat → Nat} {δ : Nat → ClassId} {sr ρ : Rf} {dy : va_W} {aK aV : Nat → Nat} {n a e : Nat} {tp : Nat → Nat}
set_option maxHeartbeats 4000000 in
theorem kx_cond (t : PT g n tp) {F : Nat} (hO : ∀ f, f ≤ F → HA l D A K δ ρ g aK aV n tp f) : HCo l D A K δ ρ g aK aV n tp (F + 1) := by
  intro op x a e R dy hop hT hR
  have hRR := hR
  unfold pC at hR
  rw [if_neg (by decide), if_neg (by decide), if_neg (by decide), if_pos rfl] at hR
  refine cx_intro (own := RX0) (lv0 := [(0, .ref (K 0)), (1, .int (nI op))]) (by decide) rfl (Nat.le_of_ble_eq_true rfl) rfl ?_
  intro p e1 s m args below meth c Y hr hmn htab
  have X := Y.x
  have loop : ∀ (f : Nat), f ≤ F → ∀ (x' : CI) (ext : va_W) (b a' e' : Nat), TK n tp a' e' → a ≤ a' → pC n tp f 4 op x' a' e' = some R → Rep ext x'.2.2.2 b x'.1 → TW p l e1 (romX (F + 1 + 10) (23 * (F + 1) + 200) (cntP a R) (4 * cntP a R)) s m args below meth c (vx_MQ below (QO A (CR D A K δ (srK aK) ρ dy g R)) (XO A (CF D A K δ (srK aK) ρ dy g R)) args s (cntP a R) (4 * cntP a R) A) D vwCl A (kW K δ (srK aK) ρ (dy ++ ext)) 3 (a' - a) (4 * (a' - a)) (pS g a' e') 6 [(2, .ref b), (0, .ref (K 0)), (1, .int (nI op))] [] := by
    intro f
    induction f with
    | zero =>
      intro _ x' ext b a' e' _ _ h
      cases h
    | succ f ih =>
      intro hf x' ext b a' e' hT' ha h hrep
      have hT1 := TK.tok (tp := tp) hT'.bd.2
      have t1 := tok_ge (tp := tp) hT'.bd.2
      have hfit := fit_r hT' (Or.inr h) a ha
      unfold pC at h
      rw [if_neg (by decide), if_neg (by decide), if_neg (by decide), if_neg (by decide)] at h
      refine tw_aload_n X dX0_cond_6 rfl 1 rfl ?_
      refine tw_ldcwS X (Y.n.2.1 19 (by decide)) dX0_cond_7 ?_
      refine tx_callV (n := 1) (b := K 0) (As := [.ref (aK 19)]) (st := []) Y (kx_goesOn t hT' (by decide)) kGX0_249 kI_X0_goesOn ⟨show 5 + 1 ≤ F + 1 + 10 by omega, show 8 + (2 + 11) + 112 ≤ 23 * (F + 1) + 200 by omega⟩ ⟨show a' - a + 0 ≤ cntP a R by omega, show 4 * (a' - a) + 0 ≤ 4 * cntP a R by omega⟩ 0 rfl rfl rfl rfl (Nat.zero_le _) dX0_cond_10 (fun E x t h => h.elim) (fun v t1 h1 => ?_)
      obtain ⟨rfl, hb1⟩ := h1
      refine TW.at ?_ hb1
      by_cases w : wrd tp a' e' 19 = true
      · rw [if_pos w] at h
        have hw := wrd_lt (n := n) (by decide) w
        rw [show gW g n tp a' e' (wrd tp a' e' 19) = pS g (tok n tp e').1 (tok n tp e').2 by rw [w]; rfl, w]
        refine tw_if_eq (a := ()) (b := ()) (z := ()) (tgt := 33) X dX0_cond_13 rfl (ite_self _) (fun z _ => absurd z (by decide)) (fun _ _ => ?_)
        have hroom : ∃ R1, pC n tp f 1 op x' (tok n tp e').1 (tok n tp e').2 = some R1 ∧ (a' - a) + 1 + cntP (tok n tp e').1 R1 ≤ cntP a R := by
          rcases pB_some h with ⟨y, h1, h2⟩ | ⟨r, h1, h2⟩
          · refine ⟨.inl y, h1, ?_⟩
            have := (pC_pos f 1 op x' _ _ _ hT1 h1).1
            rw [h2]
            show a' - a + 1 + (y - (tok n tp e').1 + 1) ≤ y - a + 1
            have : (tok n tp e').1 ≤ y := this
            omega
          · refine ⟨.inr r, h1, ?_⟩
            obtain ⟨k1, k2, k3⟩ := pC_pos f 1 op x' _ _ _ hT1 h1
            have k1 : (tok n tp e').1 + 1 ≤ r.2.1 := k1
            have := fit_r k2 (Or.inr h2) a (by omega)
            show a' - a + 1 + (r.2.1 - (tok n tp e').1) ≤ cntP a R
            omega
        obtain ⟨R1, hR1, hroom⟩ := hroom
        refine tk_new (ci := 16) (fs := [.null, .null]) X in_X18 tyX18 tyX18_ok q888 q889 q143 rfl (fun j hj => by match j, hj with | 0, _ => rfl | 1, _ => rfl) (show a' - a + 0 + 1 ≤ cntP a R by omega) (show 4 * (a' - a) + 0 + 2 ≤ 4 * cntP a R by omega) dX0_cond_16 (fun q => ?_)
        refine tw_dup X dX0_cond_19 rfl ?_
        refine tw_aload_n X dX0_cond_20 rfl 0 rfl ?_
        refine tw_aload_n X dX0_cond_21 rfl 1 rfl ?_
        refine tw_iload_n X dX0_cond_22 rfl 2 rfl ?_
        refine tx_callV (n := 1) (b := K 0) (As := [.int (nI op)]) (st := [.ref b, .ref q, .ref q]) Y (hO f (by omega) op x' _ _ R1 _ hop hT1 hR1) kGX0_304 kI_X0_all ⟨show f + 10 + 1 ≤ F + 1 + 10 by omega, show 8 + (3 + 11) + (23 * f + 200) ≤ 23 * (F + 1) + 200 by omega⟩ ⟨show a' - a + 0 + 1 + cntP (tok n tp e').1 R1 ≤ cntP a R by omega, show 4 * (a' - a) + 0 + 2 + 4 * cntP (tok n tp e').1 R1 ≤ 4 * cntP a R by omega⟩ 0 rfl rfl rfl rfl (Nat.le_of_ble_eq_true rfl) dX0_cond_23 (fun E y t h2 => ?_) (fun v t2 h2 => ?_)
        · obtain ⟨z, e2, hx⟩ := h2
          subst e2
          refine tx_out X htab (show a' - a + 0 + 1 + cntP (tok n tp e').1 (.inl z) ≤ cntP a R by omega) (show 4 * (a' - a) + 0 + 2 + 4 * cntP (tok n tp e').1 (.inl z) ≤ 4 * cntP a R by omega) (fun t3 e3 => ?_)
          rcases pB_some h with ⟨y, h1, h3⟩ | ⟨r, h1, h3⟩
          · have e4 := h1.symm.trans hR1
            cases e4
            rw [List.append_assoc] at hx
            exact ⟨_, h3, FX.up e3 hx⟩
          · have e4 := h1.symm.trans hR1
            cases e4
        · obtain ⟨r, ext2, b2, e2, rfl, hb2, hrep2⟩ := h2
          subst e2
          rcases pB_some h with ⟨y, h1, h3⟩ | ⟨r', h1, h3⟩
          · have e4 := h1.symm.trans hR1
            cases e4
          · have e4 := h1.symm.trans hR1
            cases e4
            obtain ⟨k1, k2, k3⟩ := pC_pos f 1 op x' _ _ _ hT1 hR1
            have k1 : (tok n tp e').1 + 1 ≤ r.2.1 := k1
            rw [app1] at hb2
            refine TW.at ?_ hb2
            refine tx_callI (n := 2) (b := q) (As := [.ref b, .ref b2]) (st := [.ref q]) Y (kx_iSome q b b2) (lw_meth q892) q143 q890 q891 rfl (by decide +kernel) ⟨show 3 + 1 ≤ F + 1 + 10 by omega, show 8 + (3 + 11) + 80 ≤ 23 * (F + 1) + 200 by omega⟩ ⟨show a' - a + 0 + 1 + cntP (tok n tp e').1 (.inr r) + 0 ≤ cntP a R by omega, show 4 * (a' - a) + 0 + 2 + 4 * cntP (tok n tp e').1 (.inr r) + 0 ≤ 4 * cntP a R by omega⟩ rfl rfl (Nat.le_of_ble_eq_true rfl) dX0_cond_26 (fun E x t h => h.elim) (fun v t h4 => ?_)
            obtain ⟨rfl, hb3⟩ := h4
            refine TW.at ?_ hb3
            refine tw_astore_n (lv' := [(2, .ref q), (0, .ref (K 0)), (1, .int (nI op))]) X dX0_cond_29 rfl (by decide) rfl ?_
            refine tw_goto (tgt := 6) X dX0_cond_30 rfl ?_
            have e5 : cntP (tok n tp e').1 (.inr r : PRs CI) = r.2.1 - (tok n tp e').1 := rfl
            refine tx_widen (k := r.2.1 - a) (n := 4 * (r.2.1 - a)) (by rw [e5]; omega) (by rw [e5]; omega) ?_
            have := ih (by omega) (fun h => x'.1 h || r.1.1 h, cdC x' ++ cdC r.1 ++ [-22], false, max x'.2.2.2 r.1.2.2.2 + 1) (ext ++ (q, .inr (16, [.ref b, .ref b2])) :: ext2) q r.2.1 r.2.2 k2 (by omega) h3 ?_
            · rw [← List.append_assoc] at this
              exact this
            · refine Or.inr (Or.inr (Or.inl ⟨b, b2, _, _, by simp, hrep.mono (fun x hx => by simp [hx]) (Nat.le_max_left _ _), hrep2.mono (fun x hx => by simp [hx]) (Nat.le_max_right _ _), rfl⟩))
      · rw [if_neg w] at h
        have w0 : wrd tp a' e' 19 = false := by simpa using w
        rw [show gW g n tp a' e' (wrd tp a' e' 19) = pS g a' e' by rw [w0]; rfl, w0]
        refine tw_if_eq (a := ()) (b := ()) (z := ()) (tgt := 33) X dX0_cond_13 rfl (ite_self _) (fun _ _ => ?_) (fun z _ => absurd rfl z)
        refine tw_aload_n X dX0_cond_33 rfl 0 rfl ?_
        have hR2 := Option.some.inj h
        exact tx_aret X hr (Or.inl ⟨_, rfl⟩) (Or.inr ⟨_, rfl⟩) (show a' - a + 0 ≤ cntP a R by omega) (show 4 * (a' - a) + 0 ≤ 4 * cntP a R by omega) (fun t b1 => ⟨_, ext, b, hR2.symm, rfl, b1, hrep⟩) dX0_cond_34
  refine tw_aload_n X dX0_cond_0 rfl 0 rfl ?_
  refine tw_iload_n X dX0_cond_1 rfl 1 rfl ?_
  rcases pB_some hR with ⟨y, h1, h2⟩ | ⟨r, h1, h2⟩
  · subst h2
    refine tx_callV (n := 1) (b := K 0) (As := [.int (nI op)]) (st := []) Y (hO F (Nat.le_refl _) op x _ _ _ _ hop hT h1) kGX0_304 kI_X0_all ⟨show F + 10 + 1 ≤ F + 1 + 10 by omega, show 8 + (3 + 11) + (23 * F + 200) ≤ 23 * (F + 1) + 200 by omega⟩ ⟨show 0 + cntP a (.inl y) ≤ cntP a (.inl y : PRs CI) by rw [Nat.zero_add]; exact Nat.le_refl _, show 0 + 4 * cntP a (.inl y) ≤ 4 * cntP a (.inl y : PRs CI) by rw [Nat.zero_add]; exact Nat.le_refl _⟩ 0 rfl rfl rfl rfl (Nat.zero_le _) dX0_cond_2 (fun E y t h2 => ?_) (fun v t2 h2 => ?_)
    · obtain ⟨z, e2, hx⟩ := h2
      exact tx_out X htab (by rw [Nat.zero_add]; exact Nat.le_refl _) (by rw [Nat.zero_add]; exact Nat.le_refl _) (fun t3 e3 => ⟨z, e2, FX.re e3 hx⟩)
    · obtain ⟨r, ext2, b2, e2, _⟩ := h2
      cases e2
  · obtain ⟨k1, k2, k3⟩ := pC_pos F 1 op x _ _ _ hT h1
    have k1 : a + 1 ≤ r.2.1 := k1
    have hfit := fit_r k2 (Or.inr h2) a (by omega)
    have e5 : cntP a (.inr r : PRs CI) = r.2.1 - a := rfl
    refine tx_callV (n := 1) (b := K 0) (As := [.int (nI op)]) (st := []) Y (hO F (Nat.le_refl _) op x _ _ _ _ hop hT h1) kGX0_304 kI_X0_all ⟨show F + 10 + 1 ≤ F + 1 + 10 by omega, show 8 + (3 + 11) + (23 * F + 200) ≤ 23 * (F + 1) + 200 by omega⟩ ⟨show 0 + cntP a (.inr r) ≤ cntP a R by omega, show 0 + 4 * cntP a (.inr r) ≤ 4 * cntP a R by omega⟩ 0 rfl rfl rfl rfl (Nat.zero_le _) dX0_cond_2 (fun E y t h2 => ?_) (fun v t2 h3 => ?_)
    · obtain ⟨z, e2, hx⟩ := h2
      cases e2
    · obtain ⟨r', ext2, b2, e2, rfl, hb2, hrep2⟩ := h3
      cases e2
      refine TW.at ?_ hb2
      refine tw_astore_n (lv' := [(2, .ref b2), (0, .ref (K 0)), (1, .int (nI op))]) X dX0_cond_5 rfl (by decide) rfl ?_
      refine tx_widen (k := r.2.1 - a) (n := 4 * (r.2.1 - a)) (by rw [e5]; omega) (by rw [e5]; omega) ?_
      exact loop F (Nat.le_refl _) r.1 ext2 b2 r.2.1 r.2.2 k2 (by omega) h2 hrep2
theorem sg_v (t : PT g n tp) (h : TK n tp a e) (he : a < e) : a < n ∧ tp a < 256 ∧ pS g a e 11 a = sb (tp a) := by
  have := h.bd
  have h2 := t.2.2 a (by omega)
  exact ⟨by omega, h2.1, by rw [pS_o (by decide)]; exact h2.2⟩
theorem isSg_ne (tp : Nat → Nat) {a e : Nat} (h : e - a = 1) : isSg tp a e = (tp a == 60 || tp a == 61 || tp a == 62) := by
  unfold isSg
  rw [decide_eq_true h]
  rfl
set_option maxHeartbeats 4000000 in
theorem kx_oneOf (t : PT g n tp) {F : Nat} (hO : HO l D A K δ ρ g aK aV n tp F) (hC : HCo l D A K δ ρ g aK aV n tp F) : HO l D A K δ ρ g aK aV n tp (F + 1) := by
  intro op x a e R dy hop hT hR
  have hb := hT.bd
  have t1 := tok_ge (tp := tp) hb.2
  have hT1 := TK.tok (tp := tp) hb.2
  unfold pC at hR
  rw [if_pos rfl] at hR
  refine cx_intro (own := RX0) (lv0 := [(0, .ref (K 0)), (1, .int (nI op))]) (by decide) rfl (Nat.le_of_ble_eq_true rfl) rfl ?_
  intro p e1 s m args below meth c Y hr hmn htab
  have X := Y.x
  refine tw_aload_n X dX0_oneOf_0 rfl 0 rfl ?_
  refine tw_ldcwS X (Y.n.2.1 15 (by decide)) dX0_oneOf_1 ?_
  refine tx_callV (n := 1) (b := K 0) (As := [.ref (aK 15)]) (st := []) Y (kx_goesOn t hT (by decide)) kGX0_249 kI_X0_goesOn ⟨show 5 + 1 ≤ F + 1 + 10 by omega, show 8 + (2 + 11) + 112 ≤ 23 * (F + 1) + 200 by omega⟩ ⟨Nat.zero_le _, Nat.zero_le _⟩ 0 rfl rfl rfl rfl (Nat.zero_le _) dX0_oneOf_4 (fun E x t h => h.elim) (fun v t1 h1 => ?_)
  obtain ⟨rfl, hb1⟩ := h1
  refine TW.at ?_ hb1
  by_cases w : wrd tp a e 15 = true
  · rw [if_pos w] at hR
    have hw := wrd_lt (n := n) (by decide) w
    rw [show gW g n tp a e (wrd tp a e 15) = pS g (tok n tp e).1 (tok n tp e).2 by rw [w]; rfl, w]
    refine tw_if_eq (a := ()) (b := ()) (z := ()) (tgt := 23) X dX0_oneOf_7 rfl (ite_self _) (fun z _ => absurd z (by decide)) (fun _ _ => ?_)
    have hroom : ∃ R1, pC n tp F 0 op x (tok n tp e).1 (tok n tp e).2 = some R1 ∧ 1 + cntP (tok n tp e).1 R1 ≤ cntP a R := by
      rcases pB_some hR with ⟨y, h1, h2⟩ | ⟨r, h1, h2⟩
      · refine ⟨.inl y, h1, ?_⟩
        have : (tok n tp e).1 ≤ y := (pC_pos F 0 op x _ _ _ hT1 h1).1
        rw [h2]
        show 1 + (y - (tok n tp e).1 + 1) ≤ y - a + 1
        omega
      · refine ⟨.inr r, h1, ?_⟩
        have k1 : (tok n tp e).1 + 1 ≤ r.2.1 := (pC_pos F 0 op x _ _ _ hT1 h1).1
        cases h2
        show 1 + (r.2.1 - (tok n tp e).1) ≤ r.2.1 - a
        omega
    obtain ⟨R1, hR1, hroom⟩ := hroom
    refine tk_new (ci := 13) (fs := [.null]) X in_X14 tyX14 tyX14_ok q813 q814 q139 rfl (fun j hj => by match j, hj with | 0, _ => rfl) (show 0 + 0 + 1 ≤ cntP a R by omega) (show 0 + 0 + 1 ≤ 4 * cntP a R by omega) dX0_oneOf_10 (fun q => ?_)
    refine tw_dup X dX0_oneOf_13 rfl ?_
    refine tw_aload_n X dX0_oneOf_14 rfl 0 rfl ?_
    refine tw_iload_n X dX0_oneOf_15 rfl 1 rfl ?_
    refine tx_callV (n := 1) (b := K 0) (As := [.int (nI op)]) (st := [.ref q, .ref q]) Y (hO op x _ _ R1 _ hop hT1 hR1) kGX0_270 kI_X0_oneOf ⟨show F + 10 + 1 ≤ F + 1 + 10 by omega, show 8 + (4 + 11) + (23 * F + 200) ≤ 23 * (F + 1) + 200 by omega⟩ ⟨show 0 + 0 + 1 + cntP (tok n tp e).1 R1 ≤ cntP a R by omega, show 0 + 0 + 1 + 4 * cntP (tok n tp e).1 R1 ≤ 4 * cntP a R by omega⟩ 0 rfl rfl rfl rfl (Nat.le_of_ble_eq_true rfl) dX0_oneOf_16 (fun E y t h2 => ?_) (fun v t2 h2 => ?_)
    · obtain ⟨z, e2, hx⟩ := h2
      subst e2
      refine tx_out X htab (show 0 + 0 + 1 + cntP (tok n tp e).1 (.inl z) ≤ cntP a R by omega) (show 0 + 0 + 1 + 4 * cntP (tok n tp e).1 (.inl z) ≤ 4 * cntP a R by omega) (fun t3 e3 => ?_)
      rcases pB_some hR with ⟨y, h1, h3⟩ | ⟨r, h1, h3⟩
      · have e4 := h1.symm.trans hR1
        cases e4
        exact ⟨_, h3, FX.up e3 hx⟩
      · have e4 := h1.symm.trans hR1
        cases e4
    · obtain ⟨r, ext2, b2, e2, rfl, hb2, hrep2⟩ := h2
      subst e2
      rcases pB_some hR with ⟨y, h1, h3⟩ | ⟨r', h1, h3⟩
      · have e4 := h1.symm.trans hR1
        cases e4
      · have e4 := h1.symm.trans hR1
        cases e4
        have h3 := Option.some.inj h3
        rw [app1] at hb2
        refine TW.at ?_ hb2
        refine tx_callI (n := 1) (b := q) (As := [.ref b2]) (st := [.ref q]) Y (kx_iNot q b2) (lw_meth q817) q139 q815 q816 rfl (by decide +kernel) ⟨show 2 + 1 ≤ F + 1 + 10 by omega, show 8 + (2 + 11) + 50 ≤ 23 * (F + 1) + 200 by omega⟩ ⟨show 0 + 0 + 1 + cntP (tok n tp e).1 (.inr r) + 0 ≤ cntP a R by omega, show 0 + 0 + 1 + 4 * cntP (tok n tp e).1 (.inr r) + 0 ≤ 4 * cntP a R by omega⟩ rfl rfl (Nat.le_of_ble_eq_true rfl) dX0_oneOf_19 (fun E x t h => h.elim) (fun v t h4 => ?_)
        obtain ⟨rfl, hb3⟩ := h4
        refine TW.at ?_ hb3
        refine tx_aret X hr (Or.inl ⟨_, rfl⟩) (Or.inr ⟨_, rfl⟩) (show 0 + 0 + 1 + cntP (tok n tp e).1 (.inr r) + 0 ≤ cntP a R by omega) (show 0 + 0 + 1 + 4 * cntP (tok n tp e).1 (.inr r) + 0 ≤ 4 * cntP a R by omega) (fun t b1 => ⟨_, _, q, h3.symm, rfl, b1, ?_⟩) dX0_oneOf_22
        exact Or.inl ⟨b2, _, by simp, hrep2.mono (fun x hx => by simp [hx]) (Nat.le_refl _), rfl⟩
  · rw [if_neg w] at hR
    have w0 : wrd tp a e 15 = false := by simpa using w
    rw [show gW g n tp a e (wrd tp a e 15) = pS g a e by rw [w0]; rfl, w0]
    refine tw_if_eq (a := ()) (b := ()) (z := ()) (tgt := 23) X dX0_oneOf_7 rfl (ite_self _) (fun _ _ => ?_) (fun z _ => absurd rfl z)
    have cmp : some (pQ n tp a e) = some R → TW p l e1 (romX (F + 1 + 10) (23 * (F + 1) + 200) (cntP a R) (4 * cntP a R)) s m args below meth c (vx_MQ below (QO A (CR D A K δ (srK aK) ρ dy g R)) (XO A (CF D A K δ (srK aK) ρ dy g R)) args s (cntP a R) (4 * cntP a R) A) D vwCl A (kW K δ (srK aK) ρ dy) 4 0 0 (pS g a e) 55 [(0, .ref (K 0)), (1, .int (nI op))] [] := by
      intro hQ
      have hQ := Option.some.inj hQ
      have hT2 := TK.tok (tp := tp) hT1.bd.2
      have t2 := tok_ge (tp := tp) hT1.bd.2
      have t3 := tok_ge (tp := tp) hT2.bd.2
      have hb1 := hT1.bd
      have hb2 := hT2.bd
      refine tw_aload_n X dX0_oneOf_55 rfl 0 rfl ?_
      rcases pQ_pos hT hQ with ⟨h1, h2⟩ | ⟨v1, h1, h2, h3, hrest⟩
      · subst h2
        refine tx_callV (n := 0) (b := K 0) (As := []) (st := []) Y (kx_value t hT) kGX0_288 kI_X0_value ⟨show 6 + 1 ≤ F + 1 + 10 by omega, show 8 + (2 + 11) + 150 ≤ 23 * (F + 1) + 200 by omega⟩ ⟨show 0 + 1 ≤ a - a + 1 by omega, show 0 + 2 ≤ 4 * (a - a + 1) by omega⟩ 0 rfl rfl rfl rfl (Nat.zero_le _) dX0_oneOf_56 (fun E y t h4 => ?_) (fun v t2 h4 => ?_)
        · exact tx_out X htab (show 0 + 1 ≤ a - a + 1 by omega) (show 0 + 2 ≤ 4 * (a - a + 1) by omega) (fun t3 e3 => ⟨a, rfl, FX.re e3 h4.2⟩)
        · obtain ⟨r, b, h5, _⟩ := h4
          rw [h1] at h5
          cases h5
      · have hc3 : 3 ≤ cntP a R ∨ (isSg tp (tok n tp e).1 (tok n tp e).2 = false ∧ R = .inl (tok n tp e).1 ∧ 2 ≤ cntP a R) := by
          rcases hrest with ⟨h4, h5⟩ | ⟨h4, ⟨h5, h6⟩ | ⟨v2, h5, h6, h7, h8⟩⟩
          · exact Or.inr ⟨h4, h5, by rw [h5]; show 2 ≤ (tok n tp e).1 - a + 1; omega⟩
          · have := isSg_lt h4
            exact Or.inl (by rw [h6]; show 3 ≤ (tok n tp (tok n tp e).2).1 - a + 1; omega)
          · have := isSg_lt h4
            exact Or.inl (by rw [h8]; show 3 ≤ (tok n tp (tok n tp (tok n tp e).2).2).1 - a; omega)
        have hc2 : 2 ≤ cntP a R := hc3.elim (fun z => by omega) (fun z => z.2.2)
        refine tx_callV (n := 0) (b := K 0) (As := []) (st := []) Y (kx_value t hT) kGX0_288 kI_X0_value ⟨show 6 + 1 ≤ F + 1 + 10 by omega, show 8 + (2 + 11) + 150 ≤ 23 * (F + 1) + 200 by omega⟩ ⟨show 0 + 1 ≤ cntP a R by omega, show 0 + 2 ≤ 4 * cntP a R by omega⟩ 0 rfl rfl rfl rfl (Nat.zero_le _) dX0_oneOf_56 (fun E y t h4 => ?_) (fun v t2 h4 => ?_)
        · rw [h1] at h4
          cases h4.1
        · obtain ⟨r, b, h5, rfl, hb5⟩ := h4
          rw [h1] at h5
          cases h5
          have hb5 : BW D vwCl A (kW K δ (srK aK) ρ (dy ++ [(b, .inr (12, [.int v1.1, .int v1.2.1]))])) (pS g (tok n tp e).1 (tok n tp e).2) t2 := hb5
          refine TW.at ?_ hb5
          refine tw_astore_n (lv' := [(2, .ref b), (0, .ref (K 0)), (1, .int (nI op))]) X dX0_oneOf_59 rfl (by decide) rfl ?_
          refine tw_aload_n X dX0_oneOf_60 rfl 1 rfl ?_
          refine kgX0_222_0 X dX0_oneOf_61 ?_
          refine tw_aload_n X dX0_oneOf_64 rfl 1 rfl ?_
          refine kgX0_225_0 X dX0_oneOf_65 ?_
          refine tw_isub X dX0_oneOf_68 ?_
          rw [pS_a, pS_e, pk_sub hb1.1]
          refine tw_iconst (v := 1) X dX0_oneOf_69 rfl ?_
          have flt : ∀ sg : Int32, isSg tp (tok n tp e).1 (tok n tp e).2 = false → TW p l e1 (romX (F + 1 + 10) (23 * (F + 1) + 200) (cntP a R) (4 * cntP a R)) s m args below meth c (vx_MQ below (QO A (CR D A K δ (srK aK) ρ dy g R)) (XO A (CF D A K δ (srK aK) ρ dy g R)) args s (cntP a R) (4 * cntP a R) A) D vwCl A (kW K δ (srK aK) ρ (dy ++ [(b, .inr (12, [.int v1.1, .int v1.2.1]))])) 4 (0 + 1) (0 + 2) (pS g (tok n tp e).1 (tok n tp e).2) 105 [(3, .int sg), (2, .ref b), (0, .ref (K 0)), (1, .int (nI op))] [] := by
            intro sg hs
            have hRf : R = .inl (tok n tp e).1 := by
              rcases hrest with ⟨_, h5⟩ | ⟨h4, _⟩
              · exact h5
              · rw [hs] at h4
                cases h4
            refine tw_aload_n X dX0_oneOf_105 rfl 2 rfl ?_
            refine tp_fault Y ⟨show 2 ≤ F + 1 + 10 by omega, show 41 ≤ 23 * (F + 1) + 200 by omega⟩ ⟨show 0 + 1 ≤ cntP a R by omega, show 0 + 2 ≤ 4 * cntP a R by omega⟩ (d2 := dX0_oneOf_106) dX0_oneOf_109 (fun t b => ?_)
            exact tx_out X htab (by omega) (by omega) (fun t2 e2 => ⟨_, hRf, FX.up e2 (FX.of b)⟩)
          have go : isSg tp (tok n tp e).1 (tok n tp e).2 = true → TW p l e1 (romX (F + 1 + 10) (23 * (F + 1) + 200) (cntP a R) (4 * cntP a R)) s m args below meth c (vx_MQ below (QO A (CR D A K δ (srK aK) ρ dy g R)) (XO A (CF D A K δ (srK aK) ρ dy g R)) args s (cntP a R) (4 * cntP a R) A) D vwCl A (kW K δ (srK aK) ρ (dy ++ [(b, .inr (12, [.int v1.1, .int v1.2.1]))])) 4 (0 + 1) (0 + 2) (pS g (tok n tp e).1 (tok n tp e).2) 110 [(3, .int (nI (tp (tok n tp e).1))), (2, .ref b), (0, .ref (K 0)), (1, .int (nI op))] [] := by
            intro hs
            have hls := isSg_lt hs
            have hc3 : 3 ≤ cntP a R := hc3.elim id (fun z => by rw [hs] at z; cases z.1)
            rcases hrest with ⟨h4, _⟩ | ⟨_, hrest⟩
            · rw [hs] at h4
              cases h4
            refine tw_aload_n X dX0_oneOf_110 rfl 2 rfl ?_
            refine tp_next X t hb1.2 ⟨show 2 ≤ F + 1 + 10 by omega, show 43 ≤ 23 * (F + 1) + 200 by omega⟩ ⟨show 0 + 1 ≤ cntP a R by omega, show 0 + 2 ≤ 4 * cntP a R by omega⟩ (Nat.zero_le _) dX0_oneOf_111 ?_
            refine tk_new (ci := 14) (fs := [.null, .null, .int 0]) X in_X16 tyX16 tyX16_ok q853 q854 q141 rfl (fun j hj => by match j, hj with | 0, _ => rfl | 1, _ => rfl | 2, _ => rfl) (show 0 + 1 + 1 ≤ cntP a R by omega) (show 0 + 2 + 3 ≤ 4 * cntP a R by omega) dX0_oneOf_114 (fun q => ?_)
            refine tw_dup X dX0_oneOf_117 rfl ?_
            refine tw_aload_n X dX0_oneOf_118 rfl 1 rfl ?_
            refine tw_iload_n X dX0_oneOf_119 rfl 0 rfl ?_
            refine tw_aload_n X dX0_oneOf_120 rfl 2 rfl ?_
            refine tx_callV (n := 0) (b := K 0) (As := []) (st := [.int (nI (tp (tok n tp e).1)), .ref b, .ref q, .ref q]) Y (kx_value t hT2) kGX0_288 kI_X0_value ⟨show 6 + 1 ≤ F + 1 + 10 by omega, show 8 + (2 + 11) + 150 ≤ 23 * (F + 1) + 200 by omega⟩ ⟨show 0 + 1 + 1 + 1 ≤ cntP a R by omega, show 0 + 2 + 3 + 2 ≤ 4 * cntP a R by omega⟩ 0 rfl rfl rfl rfl (Nat.le_of_ble_eq_true rfl) dX0_oneOf_121 (fun E y t h4 => ?_) (fun v t2 h4 => ?_)
            · refine tx_out X htab (show 0 + 1 + 1 + 1 ≤ cntP a R by omega) (show 0 + 2 + 3 + 2 ≤ 4 * cntP a R by omega) (fun t3 e3 => ?_)
              obtain ⟨h5, h6⟩ := h4
              rcases hrest with ⟨_, h7⟩ | ⟨v2, h8, _⟩
              · rw [List.append_assoc] at h6
                exact ⟨_, h7, FX.up e3 h6⟩
              · rw [h8] at h5
                cases h5
            · obtain ⟨r2, b2, h5, rfl, hb6⟩ := h4
              rcases hrest with ⟨h6, _⟩ | ⟨v2, h8, _, h9, h10⟩
              · rw [h6] at h5
                cases h5
              · rw [h8] at h5
                cases h5
                rw [app1] at hb6
                refine TW.at ?_ hb6
                refine tx_callI (n := 3) (b := q) (As := [.ref b, .int (nI (tp (tok n tp e).1)), .ref b2]) (st := [.ref q]) Y (kx_iAsks q b b2 (nI (tp (tok n tp e).1))) (lw_meth q857) q141 q855 q856 rfl (by decide +kernel) ⟨show 2 + 1 ≤ F + 1 + 10 by omega, show 8 + (4 + 11) + 50 ≤ 23 * (F + 1) + 200 by omega⟩ ⟨show 0 + 1 + 1 + 1 + 0 ≤ cntP a R by omega, show 0 + 2 + 3 + 2 + 0 ≤ 4 * cntP a R by omega⟩ rfl rfl (Nat.le_of_ble_eq_true rfl) dX0_oneOf_124 (fun E x t h => h.elim) (fun v t h4 => ?_)
                obtain ⟨rfl, hb7⟩ := h4
                rw [List.append_assoc] at hb7
                refine TW.at ?_ hb7
                refine tx_aret X hr (Or.inl ⟨_, rfl⟩) (Or.inr ⟨_, rfl⟩) (show 0 + 1 + 1 + 1 + 0 ≤ cntP a R by omega) (show 0 + 2 + 3 + 2 + 0 ≤ 4 * cntP a R by omega) (fun t b1 => ⟨_, _, q, h10, rfl, b1, ?_⟩) dX0_oneOf_127
                exact Or.inr (Or.inr (Or.inr ⟨b, b2, v1.1, v1.2.1, v2.1, v2.2.1, nI (tp (tok n tp e).1), by simp, by simp, by simp, h3, h9, rfl⟩))
          refine tw_icmp_ne (a := ()) (b := ()) (z := ()) (tgt := 85) X dX0_oneOf_70 rfl (ite_self _) (fun q _ => ?_) (fun q _ => ?_)
          · rw [show (1 : Int32) = nI 1 from rfl, nI_eq (by have := t.1; omega) (by decide)] at q
            obtain ⟨sv1, sv2, sv3⟩ := sg_v t hT1 (by omega)
            have hn2 := t.1
            refine tw_aload_n X dX0_oneOf_73 rfl 1 rfl ?_
            refine kgX0_103_0 X dX0_oneOf_74 ?_
            refine tw_aload_n X dX0_oneOf_77 rfl 1 rfl ?_
            refine kgX0_225_0 X dX0_oneOf_78 ?_
            refine klX0_11 (x := sb (tp (tok n tp e).1)) X (by rw [pS_a, rd_n (by omega) (by decide), sv3]) dX0_oneOf_81 ?_
            refine tw_goto (tgt := 86) X dX0_oneOf_82 rfl ?_
            refine tw_istore_n (lv' := [(3, .int (sb (tp (tok n tp e).1))), (2, .ref b), (0, .ref (K 0)), (1, .int (nI op))]) X dX0_oneOf_86 rfl (by decide) rfl ?_
            have hi := isSg_ne tp q
            have e60 : sb (tp (tok n tp e).1) = 60 ↔ tp (tok n tp e).1 = 60 := sb_eq (c := 60) sv2 (by decide)
            have e61 : sb (tp (tok n tp e).1) = 61 ↔ tp (tok n tp e).1 = 61 := sb_eq (c := 61) sv2 (by decide)
            have e62 : sb (tp (tok n tp e).1) = 62 ↔ tp (tok n tp e).1 = 62 := sb_eq (c := 62) sv2 (by decide)
            refine tw_iload_n X dX0_oneOf_87 rfl 0 rfl ?_
            refine tw_bipush (v := 60) X dX0_oneOf_88 rfl ?_
            refine tw_icmp_eq (a := ()) (b := ()) (z := ()) (tgt := 110) X dX0_oneOf_90 rfl (ite_self _) (fun z _ => ?_) (fun z60 _ => ?_)
            · rw [e60] at z
              rw [(sb_eq (c := tp (tok n tp e).1) sv2 (by omega)).mpr rfl]
              exact go (by rw [hi, z]; rfl)
            refine tw_iload_n X dX0_oneOf_93 rfl 0 rfl ?_
            refine tw_bipush (v := 61) X dX0_oneOf_94 rfl ?_
            refine tw_icmp_eq (a := ()) (b := ()) (z := ()) (tgt := 110) X dX0_oneOf_96 rfl (ite_self _) (fun z _ => ?_) (fun z61 _ => ?_)
            · rw [e61] at z
              rw [(sb_eq (c := tp (tok n tp e).1) sv2 (by omega)).mpr rfl]
              exact go (by rw [hi, z]; rfl)
            refine tw_iload_n X dX0_oneOf_99 rfl 0 rfl ?_
            refine tw_bipush (v := 62) X dX0_oneOf_100 rfl ?_
            refine tw_icmp_eq (a := ()) (b := ()) (z := ()) (tgt := 110) X dX0_oneOf_102 rfl (ite_self _) (fun z _ => ?_) (fun z62 _ => ?_)
            · rw [e62] at z
              rw [(sb_eq (c := tp (tok n tp e).1) sv2 (by omega)).mpr rfl]
              exact go (by rw [hi, z]; rfl)
            refine flt _ ?_
            rw [e60] at z60
            rw [e61] at z61
            rw [e62] at z62
            rw [hi]
            simp [z60, z61, z62]
          · rw [show (1 : Int32) = nI 1 from rfl, nI_eq (by have := t.1; omega) (by decide)] at q
            have hs : isSg tp (tok n tp e).1 (tok n tp e).2 = false := by
              unfold isSg
              rw [decide_eq_false q]
              rfl
            refine tw_iconst (v := -1) X dX0_oneOf_85 rfl ?_
            refine tw_istore_n (lv' := [(3, .int (-1)), (2, .ref b), (0, .ref (K 0)), (1, .int (nI op))]) X dX0_oneOf_86 rfl (by decide) rfl ?_
            refine tw_iload_n X dX0_oneOf_87 rfl 0 rfl ?_
            refine tw_bipush (v := 60) X dX0_oneOf_88 rfl ?_
            refine tw_icmp_eq (a := ()) (b := ()) (z := ()) (tgt := 110) X dX0_oneOf_90 rfl (ite_self _) (fun z _ => absurd z (by decide)) (fun _ _ => ?_)
            refine tw_iload_n X dX0_oneOf_93 rfl 0 rfl ?_
            refine tw_bipush (v := 61) X dX0_oneOf_94 rfl ?_
            refine tw_icmp_eq (a := ()) (b := ()) (z := ()) (tgt := 110) X dX0_oneOf_96 rfl (ite_self _) (fun z _ => absurd z (by decide)) (fun _ _ => ?_)
            refine tw_iload_n X dX0_oneOf_99 rfl 0 rfl ?_
            refine tw_bipush (v := 62) X dX0_oneOf_100 rfl ?_
            refine tw_icmp_eq (a := ()) (b := ()) (z := ()) (tgt := 110) X dX0_oneOf_102 rfl (ite_self _) (fun z _ => absurd z (by decide)) (fun _ _ => ?_)
            exact flt _ hs
    refine tw_iload_n X dX0_oneOf_23 rfl 1 rfl ?_
    refine tw_iconst (v := 3) X dX0_oneOf_24 rfl ?_
    refine tw_icmp_ge (a := ()) (b := ()) (z := ()) (tgt := 55) X dX0_oneOf_25 rfl (ite_self _) (fun q _ => ?_) (fun q _ => ?_)
    · rw [show (3 : Int32) = nI 3 from rfl, nI_leI (by decide) (by omega)] at q
      rw [if_neg (fun z => by omega)] at hR
      exact cmp hR
    · rw [show (3 : Int32) = nI 3 from rfl, nI_leI (by decide) (by omega)] at q
      refine tw_aload_n X dX0_oneOf_28 rfl 0 rfl ?_
      refine tw_ldcwS X (Y.n.2.1 16 (by decide)) dX0_oneOf_29 ?_
      refine tx_callV (n := 1) (b := K 0) (As := [.ref (aK 16)]) (st := []) Y (kx_goesOn t hT (by decide)) kGX0_249 kI_X0_goesOn ⟨show 5 + 1 ≤ F + 1 + 10 by omega, show 8 + (2 + 11) + 112 ≤ 23 * (F + 1) + 200 by omega⟩ ⟨Nat.zero_le _, Nat.zero_le _⟩ 0 rfl rfl rfl rfl (Nat.zero_le _) dX0_oneOf_32 (fun E x t h => h.elim) (fun v t1 h1 => ?_)
      obtain ⟨rfl, hb1⟩ := h1
      refine TW.at ?_ hb1
      by_cases w2 : wrd tp a e 16 = true
      · rw [if_pos ⟨by omega, w2⟩] at hR
        have hw := wrd_lt (n := n) (by decide) w2
        rw [show gW g n tp a e (wrd tp a e 16) = pS g (tok n tp e).1 (tok n tp e).2 by rw [w2]; rfl, w2]
        refine tw_if_eq (a := ()) (b := ()) (z := ()) (tgt := 55) X dX0_oneOf_35 rfl (ite_self _) (fun z _ => absurd z (by decide)) (fun _ _ => ?_)
        refine tw_aload_n X dX0_oneOf_38 rfl 0 rfl ?_
        refine tw_iload_n X dX0_oneOf_39 rfl 1 rfl ?_
        refine tw_iconst (v := 1) X dX0_oneOf_40 rfl ?_
        refine tw_iadd X dX0_oneOf_41 ?_
        rw [nI_1]
        rcases pB_some hR with ⟨y, h1, h2⟩ | ⟨r, h1, h2⟩
        · have k1 : (tok n tp e).1 ≤ y := (pC_pos F 3 (op + 1) x _ _ _ hT1 h1).1
          subst h2
          have hroom : cntP (tok n tp e).1 (.inl y : PRs CI) ≤ cntP a (.inl y : PRs CI) := by show y - _ + 1 ≤ y - a + 1; omega
          refine tx_callV (n := 1) (b := K 0) (As := [.int (nI (op + 1))]) (st := []) Y (hC (op + 1) x _ _ _ _ (by omega) hT1 h1) kGX0_279 kI_X0_cond ⟨show F + 10 + 1 ≤ F + 1 + 10 by omega, show 8 + (3 + 11) + (23 * F + 200) ≤ 23 * (F + 1) + 200 by omega⟩ ⟨show 0 + 0 + cntP (tok n tp e).1 (.inl y) ≤ cntP a (.inl y : PRs CI) by omega, show 0 + 0 + 4 * cntP (tok n tp e).1 (.inl y) ≤ 4 * cntP a (.inl y : PRs CI) by omega⟩ 0 rfl rfl rfl rfl (Nat.zero_le _) dX0_oneOf_42 (fun E y t h2 => ?_) (fun v t2 h2 => ?_)
          · obtain ⟨z, e2, hx⟩ := h2
            exact tx_out X htab (by omega) (by omega) (fun t3 e3 => ⟨z, e2, FX.re e3 hx⟩)
          · obtain ⟨r, ext2, b2, e2, _⟩ := h2
            cases e2
        · obtain ⟨k1, k2, k3⟩ := pC_pos F 3 (op + 1) x _ _ _ hT1 h1
          have k1 : (tok n tp e).1 + 1 ≤ r.2.1 := k1
          have kb := k2.bd
          have t4 := tok_ge (tp := tp) k2.bd.2
          have e5 : cntP (tok n tp e).1 (.inr r : PRs CI) = r.2.1 - (tok n tp e).1 := rfl
          have hroom : r.2.1 - (tok n tp e).1 ≤ cntP a R := by
            by_cases w3 : wrd tp r.2.1 r.2.2 17 = true
            · rw [if_pos w3] at h2
              cases h2
              show _ ≤ (tok n tp r.2.2).1 - a
              omega
            · rw [if_neg w3] at h2
              cases h2
              show _ ≤ r.2.1 - a + 1
              omega
          refine tx_callV (n := 1) (b := K 0) (As := [.int (nI (op + 1))]) (st := []) Y (hC (op + 1) x _ _ _ _ (by omega) hT1 h1) kGX0_279 kI_X0_cond ⟨show F + 10 + 1 ≤ F + 1 + 10 by omega, show 8 + (3 + 11) + (23 * F + 200) ≤ 23 * (F + 1) + 200 by omega⟩ ⟨show 0 + 0 + cntP (tok n tp e).1 (.inr r) ≤ cntP a R by omega, show 0 + 0 + 4 * cntP (tok n tp e).1 (.inr r) ≤ 4 * cntP a R by omega⟩ 0 rfl rfl rfl rfl (Nat.zero_le _) dX0_oneOf_42 (fun E y t h2 => ?_) (fun v t2 h3 => ?_)
          · obtain ⟨z, e2, hx⟩ := h2
            cases e2
          · obtain ⟨r', ext2, b2, e2, rfl, hb2, hrep2⟩ := h3
            cases e2
            refine TW.at ?_ hb2
            refine tw_astore_n (lv' := [(2, .ref b2), (0, .ref (K 0)), (1, .int (nI op))]) X dX0_oneOf_45 rfl (by decide) rfl ?_
            refine tw_aload_n X dX0_oneOf_46 rfl 1 rfl ?_
            refine tw_ldcwS X (Y.n.2.1 17 (by decide)) dX0_oneOf_47 ?_
            refine tx_callV (n := 1) (b := K 0) (As := [.ref (aK 17)]) (st := []) Y (kx_want t k2 (by decide)) kGX0_284 kI_X0_want ⟨show 6 + 1 ≤ F + 1 + 10 by omega, show 8 + (2 + 11) + 140 ≤ 23 * (F + 1) + 200 by omega⟩ ⟨show 0 + 0 + cntP (tok n tp e).1 (.inr r) + 0 ≤ cntP a R by omega, show 0 + 0 + 4 * cntP (tok n tp e).1 (.inr r) + 0 ≤ 4 * cntP a R by omega⟩ 0 rfl rfl rfl rfl (Nat.zero_le _) dX0_oneOf_50 (fun E y t h4 => ?_) (fun v t2 h4 => ?_)
            · rw [if_neg (by rw [h4.1]; decide)] at h2
              exact tx_out X htab (by omega) (by omega) (fun t3 e3 => ⟨r.2.1, (Option.some.inj h2).symm, FX.up e3 h4.2⟩)
            · obtain ⟨w3, rfl, hb4⟩ := h4
              rw [if_pos w3] at h2
              refine TW.at ?_ hb4
              refine tw_aload_n X dX0_oneOf_53 rfl 0 rfl ?_
              exact tx_aret X hr (Or.inl ⟨_, rfl⟩) (Or.inr ⟨_, rfl⟩) (by omega) (by omega) (fun t b1 => ⟨_, ext2, b2, (Option.some.inj h2).symm, rfl, b1, hrep2⟩) dX0_oneOf_54
      · rw [if_neg (fun z => w2 z.2)] at hR
        have w0 : wrd tp a e 16 = false := by simpa using w2
        rw [show gW g n tp a e (wrd tp a e 16) = pS g a e by rw [w0]; rfl, w0]
        refine tw_if_eq (a := ()) (b := ()) (z := ()) (tgt := 55) X dX0_oneOf_35 rfl (ite_self _) (fun _ _ => ?_) (fun z _ => absurd rfl z)
        exact cmp hR
theorem HO_0 : HO l D A K δ ρ g aK aV n tp 0 := fun op x a e R dy _ _ h => by cases h
theorem HA_0 : HA l D A K δ ρ g aK aV n tp 0 := fun op x a e R dy _ _ h => by cases h
theorem HCo_0 : HCo l D A K δ ρ g aK aV n tp 0 := fun op x a e R dy _ _ h => by cases h
/-- conditions, by any fuel -/
theorem kx_conds (t : PT g n tp) : ∀ F, ∀ f, f ≤ F → HO l D A K δ ρ g aK aV n tp f ∧ HA l D A K δ ρ g aK aV n tp f ∧ HCo l D A K δ ρ g aK aV n tp f
  | 0, f, h => by
    have e : f = 0 := by omega
    subst e
    exact ⟨HO_0, HA_0, HCo_0⟩
  | F + 1, f, h => by
    by_cases q : f ≤ F
    · exact kx_conds t F f q
    · have e : f = F + 1 := by omega
      subst e
      have ih := kx_conds t F
      exact ⟨kx_oneOf t (ih F (Nat.le_refl _)).1 (ih F (Nat.le_refl _)).2.2, kx_all t (fun f hf => (ih f hf).1), kx_cond t (fun f hf => (ih f hf).2.1)⟩
end KP4
