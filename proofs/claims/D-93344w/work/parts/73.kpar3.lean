/-! the component's parser: values and conditions -/
set_option maxRecDepth 100000
theorem srK_0 (aK : Nat → Nat) (i : Nat) (h : i < 6) : srK aK 0 i = some (aK (0 + i)) := by
  show (if i < 6 then some (aK i) else none) = _
  rw [if_pos h, Nat.zero_add]
theorem srK_1 (aK : Nat → Nat) (i : Nat) (h : i < 3) : srK aK 1 i = some (aK (6 + i)) := by
  show (if i < 3 then some (aK (6 + i)) else none) = _
  rw [if_pos h]
theorem srK_2 (aK : Nat → Nat) (i : Nat) (h : i < 5) : srK aK 2 i = some (aK (9 + i)) := by
  show (if i < 5 then some (aK (9 + i)) else none) = _
  rw [if_pos h]
theorem app1 (x : va_W) (c : Nat × va_E) (y : va_W) : (x ++ [c]) ++ y = x ++ c :: y := by rw [List.append_assoc]; rfl
section KP3
variable {p : Program} {l : Launch} {e0 : Env} {R : Room} {s : State} {m : MethodId} {args : Array Value} {below : List Frame} {meth : Method} {c : Code} {Q : State → Prop} {D : va_G} {A : Nat → Prop} {nL ce sl : Nat} {g : St} {pc : Nat} {lv : List (Nat × Value)} {st : List Value} {cc : ByteArray} {K : Nat → Nat} {δ : Nat → ClassId} {sr ρ : Rf} {dy : va_W} {aK aV : Nat → Nat} {n a e : Nat} {tp : Nat → Nat}
theorem FX.up {dy ext : va_W} {x : Nat} {q : Addr} {E : String} {t t2 : State} (e2 : t2.heap = t.heap) (h : FX D A K δ sr ρ (dy ++ ext) g x q E t) : FX D A K δ sr ρ dy g x q E t2 := by
  obtain ⟨h1, h2, ext2, a', e', b⟩ := h
  refine ⟨h1, h2, ext ++ ext2, a', e', ?_⟩
  rw [List.append_assoc] at b
  exact ⟨by rw [e2]; exact b.1, b.2⟩
theorem FX.re {dy : va_W} {x : Nat} {q : Addr} {E : String} {t t2 : State} (e2 : t2.heap = t.heap) (h : FX D A K δ sr ρ dy g x q E t) : FX D A K δ sr ρ dy g x q E t2 := by
  obtain ⟨h1, h2, ext2, a', e', b⟩ := h
  exact ⟨h1, h2, ext2, a', e', by rw [e2]; exact b.1, b.2⟩
theorem kx_value (t : PT g n tp) (h : TK n tp a e) : CX l yX0_value cX0_value 2 (some (.object "HadForVoice$Value")) 6 150 1 2 D vwCl (kT δ) A aK aV (kW K δ (srK aK) ρ dy) [.ref (K 0)] (pS g a e) (fun v t => ∃ r b, pV n tp a e = .inr r ∧ v = some (.ref b) ∧ BW D vwCl A (kW K δ (srK aK) ρ (dy ++ [(b, .inr (12, [.int r.1.1, .int r.1.2.1]))])) (pS g r.2.1 r.2.2) t) (fun q E t => pV n tp a e = .inl a ∧ FX D A K δ (srK aK) ρ dy g a q E t) := by
  refine cx_intro (own := RX0) (lv0 := [(0, .ref (K 0))]) (by decide) rfl (Nat.le_of_ble_eq_true rfl) rfl ?_
  intro p e1 s m args below meth c Y hr hmn htab
  have X := Y.x
  refine tw_aload_n X dX0_value_0 rfl 0 rfl ?_
  refine tw_aload_n X dX0_value_1 rfl 0 rfl ?_
  refine kgX0_100_0 X dX0_value_2 ?_
  refine tx_callV (n := 1) (b := K 0) (As := [.ref (K 10)]) (st := []) Y (kx_nameOf (b := 9) (mm := 5) (q0 := 48) t h (by decide) (by decide) rfl (srK_2 aK)) kGX0_256 kI_X0_nameOf ⟨Nat.le_of_ble_eq_true rfl, Nat.le_of_ble_eq_true rfl⟩ ⟨Nat.zero_le _, Nat.zero_le _⟩ 0 rfl rfl rfl rfl (Nat.zero_le _) dX0_value_5 (fun E x t h => h.elim) (fun v t1 h1 => ?_)
  cases hk : nmK tp a e 9 5 with
  | some k =>
    rw [hk] at h1
    obtain ⟨hk5, _⟩ := nmK_lt (by decide) hk
    obtain ⟨rfl, hb1⟩ := h1
    have hV : pV n tp a e = .inr ((nI k, 0, -1 - nI k), tok n tp e) := by
      unfold pV
      rw [hk]
    refine TW.at ?_ hb1
    refine tw_istore_n (lv' := [(1, .int (nI k)), (0, .ref (K 0))]) X dX0_value_8 rfl (by decide) rfl ?_
    refine tw_iload_n X dX0_value_9 rfl 0 rfl ?_
    refine tw_if_lt (a := ()) (b := ()) (z := ()) (tgt := 25) X dX0_value_10 rfl (ite_self _) (fun z _ => absurd z (nI_pos (by omega))) (fun _ _ => ?_)
    refine tk_new (ci := 12) (fs := [.int 0, .int 0]) X in_X15 tyX15 tyX15_ok q836 q837 q140 rfl (fun j hj => by match j, hj with | 0, _ => rfl | 1, _ => rfl) (Nat.le_refl _) (Nat.le_refl _) dX0_value_13 (fun q => ?_)
    refine tw_dup X dX0_value_16 rfl ?_
    refine tw_iload_n X dX0_value_17 rfl 0 rfl ?_
    refine tw_iconst (v := 0) X dX0_value_18 rfl ?_
    refine tx_callI (n := 2) (b := q) (As := [.int (nI k), .int 0]) (st := [.ref q]) Y (kx_iValue (ext := []) q (nI k) 0) (lw_meth q840) q140 q838 q839 rfl (by decide +kernel) ⟨Nat.le_of_ble_eq_true rfl, Nat.le_of_ble_eq_true rfl⟩ ⟨Nat.le_refl _, Nat.le_refl _⟩ rfl rfl (Nat.le_of_ble_eq_true rfl) dX0_value_19 (fun E x t h => h.elim) (fun v t h2 => ?_)
    obtain ⟨rfl, hb2⟩ := h2
    refine TW.at ?_ hb2
    refine tw_goto (tgt := 37) X dX0_value_22 rfl ?_
    exact tx_aret X hr (Or.inl ⟨_, rfl⟩) (Or.inr ⟨_, rfl⟩) (Nat.le_refl _) (Nat.le_refl _) (fun t b => ⟨_, q, hV, rfl, b⟩) dX0_value_37
  | none =>
    rw [hk] at h1
    obtain ⟨rfl, hb1⟩ := h1
    have hV : pV n tp a e = Sum.map id (fun r => ((-1, nI r.1, nI r.1), r.2)) (pF n tp a e) := by
      unfold pV
      rw [hk]
    refine TW.at ?_ hb1
    refine tw_istore_n (lv' := [(1, .int (-1)), (0, .ref (K 0))]) X dX0_value_8 rfl (by decide) rfl ?_
    refine tw_iload_n X dX0_value_9 rfl 0 rfl ?_
    refine tw_if_lt (a := ()) (b := ()) (z := ()) (tgt := 25) X dX0_value_10 rfl (ite_self _) (fun _ _ => ?_) (fun z _ => absurd (by decide) z)
    refine tk_new (ci := 12) (fs := [.int 0, .int 0]) X in_X15 tyX15 tyX15_ok q836 q837 q140 rfl (fun j hj => by match j, hj with | 0, _ => rfl | 1, _ => rfl) (Nat.le_refl _) (Nat.le_refl _) dX0_value_25 (fun q => ?_)
    refine tw_dup X dX0_value_28 rfl ?_
    refine tw_iconst (v := -1) X dX0_value_29 rfl ?_
    refine tw_aload_n X dX0_value_30 rfl 1 rfl ?_
    refine tx_callV (n := 0) (b := K 0) (As := []) (st := [.int (-1), .ref q, .ref q]) Y (kx_figure t h) kGX0_263 kI_X0_figure ⟨Nat.le_of_ble_eq_true rfl, Nat.le_of_ble_eq_true rfl⟩ ⟨Nat.le_refl _, Nat.le_refl _⟩ 0 rfl rfl rfl rfl (Nat.le_of_ble_eq_true rfl) dX0_value_31 (fun E x t h => tx_out X htab (Nat.le_refl _) (Nat.le_refl _) (fun t2 e2 => ?_)) (fun v t1 h1 => ?_)
    · exact ⟨by rw [hV, h.1]; rfl, FX.up e2 h.2⟩
    · obtain ⟨r, hF, rfl, hb2⟩ := h1
      refine TW.at ?_ hb2
      refine tx_callI (n := 2) (b := q) (As := [.int (-1), .int (nI r.1)]) (st := [.ref q]) Y (kx_iValue (ext := []) q (-1) (nI r.1)) (lw_meth q840) q140 q838 q839 rfl (by decide +kernel) ⟨Nat.le_of_ble_eq_true rfl, Nat.le_of_ble_eq_true rfl⟩ ⟨Nat.le_refl _, Nat.le_refl _⟩ rfl rfl (Nat.le_of_ble_eq_true rfl) dX0_value_34 (fun E x t h => h.elim) (fun v t h2 => ?_)
      obtain ⟨rfl, hb3⟩ := h2
      refine TW.at ?_ hb3
      exact tx_aret X hr (Or.inl ⟨_, rfl⟩) (Or.inr ⟨_, rfl⟩) (Nat.le_refl _) (Nat.le_refl _) (fun t b => ⟨((-1, nI r.1, nI r.1), r.2), q, by rw [hV, hF]; rfl, rfl, b⟩) dX0_value_37
/-- a condition was read -/
def CR (D : va_G) (A : Nat → Prop) (K : Nat → Nat) (δ : Nat → ClassId) (sr ρ : Rf) (dy : va_W) (g : St) (R : PRs CI) (v : Option Value) (t : State) : Prop := ∃ r ext b, R = .inr r ∧ v = some (.ref b) ∧ BW D vwCl A (kW K δ sr ρ (dy ++ ext)) (pS g r.2.1 r.2.2) t ∧ Rep ext r.1.2.2.2 b r.1.1
def CF (D : va_G) (A : Nat → Prop) (K : Nat → Nat) (δ : Nat → ClassId) (sr ρ : Rf) (dy : va_W) (g : St) (R : PRs CI) (q : Addr) (E : String) (t : State) : Prop := ∃ x, R = .inl x ∧ FX D A K δ sr ρ dy g x q E t
theorem fit_r {op f : Nat} {x : CI} {R : PRs CI} (h : TK n tp a e) (hR : pC n tp f 2 op x a e = some R ∨ pC n tp f 4 op x a e = some R) (a0 : Nat) (h0 : a0 ≤ a) : a - a0 ≤ cntP a0 R := by
  have key : pOk n tp 0 x.2.2.2 a R := hR.elim (fun z => pC_pos f 2 op x a e R h z) (fun z => pC_pos f 4 op x a e R h z)
  cases R with
  | inl p => have := key.1; show a - a0 ≤ p - a0 + 1; omega
  | inr r => have : a + 0 ≤ r.2.1 := key.1; show a - a0 ≤ r.2.1 - a0; omega
def HO (l : Launch) (D : va_G) (A : Nat → Prop) (K : Nat → Nat) (δ : Nat → ClassId) (ρ : Rf) (g : St) (aK aV : Nat → Nat) (n : Nat) (tp : Nat → Nat) (f : Nat) : Prop := ∀ op x a e R dy, op ≤ 3 → TK n tp a e → pC n tp f 0 op x a e = some R → CX l yX0_oneOf cX0_oneOf 4 (some (.object "HadForVoice$Cond")) (f + 10) (23 * f + 200) (cntP a R) (4 * cntP a R) D vwCl (kT δ) A aK aV (kW K δ (srK aK) ρ dy) [.ref (K 0), .int (nI op)] (pS g a e) (CR D A K δ (srK aK) ρ dy g R) (CF D A K δ (srK aK) ρ dy g R)
def HA (l : Launch) (D : va_G) (A : Nat → Prop) (K : Nat → Nat) (δ : Nat → ClassId) (ρ : Rf) (g : St) (aK aV : Nat → Nat) (n : Nat) (tp : Nat → Nat) (f : Nat) : Prop := ∀ op x a e R dy, op ≤ 3 → TK n tp a e → pC n tp f 1 op x a e = some R → CX l yX0_all cX0_all 3 (some (.object "HadForVoice$Cond")) (f + 10) (23 * f + 200) (cntP a R) (4 * cntP a R) D vwCl (kT δ) A aK aV (kW K δ (srK aK) ρ dy) [.ref (K 0), .int (nI op)] (pS g a e) (CR D A K δ (srK aK) ρ dy g R) (CF D A K δ (srK aK) ρ dy g R)
def HCo (l : Launch) (D : va_G) (A : Nat → Prop) (K : Nat → Nat) (δ : Nat → ClassId) (ρ : Rf) (g : St) (aK aV : Nat → Nat) (n : Nat) (tp : Nat → Nat) (f : Nat) : Prop := ∀ op x a e R dy, op ≤ 3 → TK n tp a e → pC n tp f 3 op x a e = some R → CX l yX0_cond cX0_cond 3 (some (.object "HadForVoice$Cond")) (f + 10) (23 * f + 200) (cntP a R) (4 * cntP a R) D vwCl (kT δ) A aK aV (kW K δ (srK aK) ρ dy) [.ref (K 0), .int (nI op)] (pS g a e) (CR D A K δ (srK aK) ρ dy g R) (CF D A K δ (srK aK) ρ dy g R)
set_option maxHeartbeats 4000000 in
theorem kx_all (t : PT g n tp) {F : Nat} (hO : ∀ f, f ≤ F → HO l D A K δ ρ g aK aV n tp f) : HA l D A K δ ρ g aK aV n tp (F + 1) := by
  intro op x a e R dy hop hT hR
  have hRR := hR
  unfold pC at hR
  rw [if_neg (by decide), if_pos rfl] at hR
  refine cx_intro (own := RX0) (lv0 := [(0, .ref (K 0)), (1, .int (nI op))]) (by decide) rfl (Nat.le_of_ble_eq_true rfl) rfl ?_
  intro p e1 s m args below meth c Y hr hmn htab
  have X := Y.x
  have loop : ∀ (f : Nat), f ≤ F → ∀ (x' : CI) (ext : va_W) (b a' e' : Nat), TK n tp a' e' → a ≤ a' → pC n tp f 2 op x' a' e' = some R → Rep ext x'.2.2.2 b x'.1 → TW p l e1 (romX (F + 1 + 10) (23 * (F + 1) + 200) (cntP a R) (4 * cntP a R)) s m args below meth c (vx_MQ below (QO A (CR D A K δ (srK aK) ρ dy g R)) (XO A (CF D A K δ (srK aK) ρ dy g R)) args s (cntP a R) (4 * cntP a R) A) D vwCl A (kW K δ (srK aK) ρ (dy ++ ext)) 3 (a' - a) (4 * (a' - a)) (pS g a' e') 6 [(2, .ref b), (0, .ref (K 0)), (1, .int (nI op))] [] := by
    intro f
    induction f with
    | zero =>
      intro _ x' ext b a' e' _ _ h
      cases h
    | succ f ih =>
      intro hf x' ext b a' e' hT' ha h hrep
      have hT1 := TK.tok (tp := tp) hT'.bd.2
      have t1 := tok_ge (tp := tp) hT'.bd.2
      have hfit := fit_r hT' (Or.inl h) a ha
      unfold pC at h
      rw [if_neg (by decide), if_neg (by decide), if_pos rfl] at h
      refine tw_aload_n X dX0_all_6 rfl 1 rfl ?_
      refine tw_ldcwS X (Y.n.2.1 18 (by decide)) dX0_all_7 ?_
      refine tx_callV (n := 1) (b := K 0) (As := [.ref (aK 18)]) (st := []) Y (kx_goesOn t hT' (by decide)) kGX0_249 kI_X0_goesOn ⟨show 5 + 1 ≤ F + 1 + 10 by omega, show 8 + (2 + 11) + 112 ≤ 23 * (F + 1) + 200 by omega⟩ ⟨show a' - a + 0 ≤ cntP a R by omega, show 4 * (a' - a) + 0 ≤ 4 * cntP a R by omega⟩ 0 rfl rfl rfl rfl (Nat.zero_le _) dX0_all_10 (fun E x t h => h.elim) (fun v t1 h1 => ?_)
      obtain ⟨rfl, hb1⟩ := h1
      refine TW.at ?_ hb1
      by_cases w : wrd tp a' e' 18 = true
      · rw [if_pos w] at h
        have hw := wrd_lt (n := n) (by decide) w
        rw [show gW g n tp a' e' (wrd tp a' e' 18) = pS g (tok n tp e').1 (tok n tp e').2 by rw [w]; rfl, w]
        refine tw_if_eq (a := ()) (b := ()) (z := ()) (tgt := 33) X dX0_all_13 rfl (ite_self _) (fun z _ => absurd z (by decide)) (fun _ _ => ?_)
        have hroom : ∃ R1, pC n tp f 0 op x' (tok n tp e').1 (tok n tp e').2 = some R1 ∧ (a' - a) + 1 + cntP (tok n tp e').1 R1 ≤ cntP a R := by
          rcases pB_some h with ⟨y, h1, h2⟩ | ⟨r, h1, h2⟩
          · refine ⟨.inl y, h1, ?_⟩
            have := (pC_pos f 0 op x' _ _ _ hT1 h1).1
            rw [h2]
            show a' - a + 1 + (y - (tok n tp e').1 + 1) ≤ y - a + 1
            have : (tok n tp e').1 ≤ y := this
            omega
          · refine ⟨.inr r, h1, ?_⟩
            obtain ⟨k1, k2, k3⟩ := pC_pos f 0 op x' _ _ _ hT1 h1
            have k1 : (tok n tp e').1 + 1 ≤ r.2.1 := k1
            have := fit_r k2 (Or.inl h2) a (by omega)
            show a' - a + 1 + (r.2.1 - (tok n tp e').1) ≤ cntP a R
            omega
        obtain ⟨R1, hR1, hroom⟩ := hroom
        refine tk_new (ci := 15) (fs := [.null, .null]) X in_X17 tyX17 tyX17_ok q870 q871 q142 rfl (fun j hj => by match j, hj with | 0, _ => rfl | 1, _ => rfl) (show a' - a + 0 + 1 ≤ cntP a R by omega) (show 4 * (a' - a) + 0 + 2 ≤ 4 * cntP a R by omega) dX0_all_16 (fun q => ?_)
        refine tw_dup X dX0_all_19 rfl ?_
        refine tw_aload_n X dX0_all_20 rfl 0 rfl ?_
        refine tw_aload_n X dX0_all_21 rfl 1 rfl ?_
        refine tw_iload_n X dX0_all_22 rfl 2 rfl ?_
        refine tx_callV (n := 1) (b := K 0) (As := [.int (nI op)]) (st := [.ref b, .ref q, .ref q]) Y (hO f (by omega) op x' _ _ R1 _ hop hT1 hR1) kGX0_270 kI_X0_oneOf ⟨show f + 10 + 1 ≤ F + 1 + 10 by omega, show 8 + (4 + 11) + (23 * f + 200) ≤ 23 * (F + 1) + 200 by omega⟩ ⟨show a' - a + 0 + 1 + cntP (tok n tp e').1 R1 ≤ cntP a R by omega, show 4 * (a' - a) + 0 + 2 + 4 * cntP (tok n tp e').1 R1 ≤ 4 * cntP a R by omega⟩ 0 rfl rfl rfl rfl (Nat.le_of_ble_eq_true rfl) dX0_all_23 (fun E y t h2 => ?_) (fun v t2 h2 => ?_)
        · obtain ⟨z, e2, hx⟩ := h2
          subst e2
          refine tx_out X htab (show a' - a + 0 + 1 + cntP (tok n tp e').1 (.inl z) ≤ cntP a R by omega) (show 4 * (a' - a) + 0 + 2 + 4 * cntP (tok n tp e').1 (.inl z) ≤ 4 * cntP a R by omega) (fun t3 e3 => ?_)
          rcases pB_some h with ⟨y, h1, h3⟩ | ⟨r, h1, h3⟩
          · have e4 := h1.symm.trans hR1
            cases e4
            rw [List.append_assoc] at hx
            exact ⟨_, h3, FX.up e3 hx⟩
          · have e4 := h1.symm.trans hR1
            cases e4
        · obtain ⟨r, ext2, b2, e2, rfl, hb2, hrep2⟩ := h2
          subst e2
          rcases pB_some h with ⟨y, h1, h3⟩ | ⟨r', h1, h3⟩
          · have e4 := h1.symm.trans hR1
            cases e4
          · have e4 := h1.symm.trans hR1
            cases e4
            obtain ⟨k1, k2, k3⟩ := pC_pos f 0 op x' _ _ _ hT1 hR1
            have k1 : (tok n tp e').1 + 1 ≤ r.2.1 := k1
            rw [app1] at hb2
            refine TW.at ?_ hb2
            refine tx_callI (n := 2) (b := q) (As := [.ref b, .ref b2]) (st := [.ref q]) Y (kx_iAll in_X17 tyX17 tyX17_ok nmX17 rfl rfl rfl q b b2) (lw_meth q874) q142 q872 q873 rfl (by decide +kernel) ⟨show 2 + 1 ≤ F + 1 + 10 by omega, show 8 + (3 + 11) + 50 ≤ 23 * (F + 1) + 200 by omega⟩ ⟨show a' - a + 0 + 1 + cntP (tok n tp e').1 (.inr r) + 0 ≤ cntP a R by omega, show 4 * (a' - a) + 0 + 2 + 4 * cntP (tok n tp e').1 (.inr r) + 0 ≤ 4 * cntP a R by omega⟩ rfl rfl (Nat.le_of_ble_eq_true rfl) dX0_all_26 (fun E x t h => h.elim) (fun v t h4 => ?_)
            obtain ⟨rfl, hb3⟩ := h4
            refine TW.at ?_ hb3
            refine tw_astore_n (lv' := [(2, .ref q), (0, .ref (K 0)), (1, .int (nI op))]) X dX0_all_29 rfl (by decide) rfl ?_
            refine tw_goto (tgt := 6) X dX0_all_30 rfl ?_
            have e5 : cntP (tok n tp e').1 (.inr r : PRs CI) = r.2.1 - (tok n tp e').1 := rfl
            refine tx_widen (k := r.2.1 - a) (n := 4 * (r.2.1 - a)) (by rw [e5]; omega) (by rw [e5]; omega) ?_
            have := ih (by omega) (fun h => x'.1 h && r.1.1 h, cdC x' ++ cdC r.1 ++ [-21], false, max x'.2.2.2 r.1.2.2.2 + 1) (ext ++ (q, .inr (15, [.ref b, .ref b2])) :: ext2) q r.2.1 r.2.2 k2 (by omega) h3 ?_
            · rw [← List.append_assoc] at this
              exact this
            · refine Or.inr (Or.inl ⟨b, b2, _, _, by simp, hrep.mono (fun x hx => by simp [hx]) (Nat.le_max_left _ _), hrep2.mono (fun x hx => by simp [hx]) (Nat.le_max_right _ _), rfl⟩)
      · rw [if_neg w] at h
        have w0 : wrd tp a' e' 18 = false := by simpa using w
        rw [show gW g n tp a' e' (wrd tp a' e' 18) = pS g a' e' by rw [w0]; rfl, w0]
        refine tw_if_eq (a := ()) (b := ()) (z := ()) (tgt := 33) X dX0_all_13 rfl (ite_self _) (fun _ _ => ?_) (fun z _ => absurd rfl z)
        refine tw_aload_n X dX0_all_33 rfl 0 rfl ?_
        have hR2 := Option.some.inj h
        exact tx_aret X hr (Or.inl ⟨_, rfl⟩) (Or.inr ⟨_, rfl⟩) (show a' - a + 0 ≤ cntP a R by omega) (show 4 * (a' - a) + 0 ≤ 4 * cntP a R by omega) (fun t b1 => ⟨_, ext, b, hR2.symm, rfl, b1, hrep⟩) dX0_all_34
  refine tw_aload_n X dX0_all_0 rfl 0 rfl ?_
  refine tw_iload_n X dX0_all_1 rfl 1 rfl ?_
  rcases pB_some hR with ⟨y, h1, h2⟩ | ⟨r, h1, h2⟩
  · subst h2
    refine tx_callV (n := 1) (b := K 0) (As := [.int (nI op)]) (st := []) Y (hO F (Nat.le_refl _) op x _ _ _ _ hop hT h1) kGX0_270 kI_X0_oneOf ⟨show F + 10 + 1 ≤ F + 1 + 10 by omega, show 8 + (4 + 11) + (23 * F + 200) ≤ 23 * (F + 1) + 200 by omega⟩ ⟨show 0 + cntP a (.inl y) ≤ cntP a (.inl y : PRs CI) by rw [Nat.zero_add]; exact Nat.le_refl _, show 0 + 4 * cntP a (.inl y) ≤ 4 * cntP a (.inl y : PRs CI) by rw [Nat.zero_add]; exact Nat.le_refl _⟩ 0 rfl rfl rfl rfl (Nat.zero_le _) dX0_all_2 (fun E y t h2 => ?_) (fun v t2 h2 => ?_)
    · obtain ⟨z, e2, hx⟩ := h2
      exact tx_out X htab (by rw [Nat.zero_add]; exact Nat.le_refl _) (by rw [Nat.zero_add]; exact Nat.le_refl _) (fun t3 e3 => ⟨z, e2, FX.re e3 hx⟩)
    · obtain ⟨r, ext2, b2, e2, _⟩ := h2
      cases e2
  · obtain ⟨k1, k2, k3⟩ := pC_pos F 0 op x _ _ _ hT h1
    have k1 : a + 1 ≤ r.2.1 := k1
    have hfit := fit_r k2 (Or.inl h2) a (by omega)
    have e5 : cntP a (.inr r : PRs CI) = r.2.1 - a := rfl
    refine tx_callV (n := 1) (b := K 0) (As := [.int (nI op)]) (st := []) Y (hO F (Nat.le_refl _) op x _ _ _ _ hop hT h1) kGX0_270 kI_X0_oneOf ⟨show F + 10 + 1 ≤ F + 1 + 10 by omega, show 8 + (4 + 11) + (23 * F + 200) ≤ 23 * (F + 1) + 200 by omega⟩ ⟨show 0 + cntP a (.inr r) ≤ cntP a R by omega, show 0 + 4 * cntP a (.inr r) ≤ 4 * cntP a R by omega⟩ 0 rfl rfl rfl rfl (Nat.zero_le _) dX0_all_2 (fun E y t h2 => ?_) (fun v t2 h3 => ?_)
    · obtain ⟨z, e2, hx⟩ := h2
      cases e2
    · obtain ⟨r', ext2, b2, e2, rfl, hb2, hrep2⟩ := h3
      cases e2
      refine TW.at ?_ hb2
      refine tw_astore_n (lv' := [(2, .ref b2), (0, .ref (K 0)), (1, .int (nI op))]) X dX0_all_5 rfl (by decide) rfl ?_
      refine tx_widen (k := r.2.1 - a) (n := 4 * (r.2.1 - a)) (by rw [e5]; omega) (by rw [e5]; omega) ?_
      exact loop F (Nat.le_refl _) r.1 ext2 b2 r.2.1 r.2.2 k2 (by omega) h2 hrep2
end KP3
