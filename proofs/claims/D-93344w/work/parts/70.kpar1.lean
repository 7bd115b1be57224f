/-! the component's parser: words, figures, values -/
set_option maxRecDepth 100000
def TK (n : Nat) (tp : Nat → Nat) (a e : Nat) : Prop := a ≤ n ∧ e = tkE n tp a
theorem TK.bd {n a e : Nat} {tp : Nat → Nat} (h : TK n tp a e) : a ≤ e ∧ e ≤ n := by
  have := tkE_bd tp h.1
  rw [h.2]
  exact ⟨this.1, this.2.1⟩
theorem TK.tok {n e : Nat} {tp : Nat → Nat} (h : e ≤ n) : TK n tp (tok n tp e).1 (tok n tp e).2 := ⟨(tkA_bd tp h).2, rfl⟩
theorem tok_ge {n e : Nat} {tp : Nat → Nat} (h : e ≤ n) : e ≤ (tok n tp e).1 := (tkA_bd tp h).1
theorem TK.dig {n a e : Nat} {tp : Nat → Nat} (h : TK n tp a e) (hd : isDb (tp a) = true) (i : Nat) (h1 : a ≤ i) (h2 : i < e) : isDb (tp i) = true := by
  have hb := h.bd
  have e2 := h.2
  have hL : ¬ isLb (tp a) = true := fun z => by rw [LD_x _ z] at hd; cases hd
  unfold tkE at e2
  rw [if_pos (by omega), if_neg hL, if_pos hd] at e2
  by_cases q : i = a
  · subst q
    exact hd
  · rw [e2] at h2
    have := nx_run _ _ i (by omega) h2
    simpa using this
section KP0
variable {σ : Type} {p : Program} {l : Launch} {e : Env} {R : Room} {s : State} {m : MethodId} {args : Array Value} {below : List Frame} {meth : Method} {c : Code} {Q : State → Prop} {D : va_G} {cl : List vw_C} {A : Nat → Prop} {Wd : σ → va_W} {nL ce sl : Nat} {g : σ} {pc : Nat} {lv : List (Nat × Value)} {st : List Value} {cc : ByteArray} {own : String} {tys : List (ClassId × FieldType)} {aK aV : Nat → Nat}
theorem tw_ldcwS (X : Cx p c cc nL s args own m meth D cl tys A) {index q : Nat} {tx : String} (hZ : vk_R own index tx q s) (hdg : decode cc pc = .ok (.ldc_w index, 3)) (k : TW p l e R s m args below meth c Q D cl A Wd nL ce sl g (pc + 3) lv (.ref q :: st)) : TW p l e R s m args below meth c Q D cl A Wd nL ce sl g pc lv st := by
  intro H locs ls hl hP hD hS T hT XX
  obtain ⟨t, a1, b1⟩ := k H locs ls hl hP hD hS T hT XX
  exact ⟨t, XX.ldcStringW X.hx X.hown (text := tx) (a := q) hZ.1 hZ.2 (g := F0 m pc ls st) rfl (by rw [X.hb]; exact hdg) t a1, b1⟩
end KP0
section KP1
variable {p : Program} {l : Launch} {e0 : Env} {R : Room} {s : State} {m : MethodId} {args : Array Value} {below : List Frame} {meth : Method} {c : Code} {Q : State → Prop} {D : va_G} {A : Nat → Prop} {nL ce sl : Nat} {g : St} {pc : Nat} {lv : List (Nat × Value)} {st : List Value} {cc : ByteArray} {K : Nat → Nat} {δ : Nat → ClassId} {sr ρ : Rf} {dy : va_W} {aK aV : Nat → Nat} {n a e : Nat} {tp : Nat → Nat}
theorem tp_next (X : Cx p c cc nL s args RX0 m meth D vwCl (kT δ) A) (t : PT g n tp) (he : e ≤ n) (hR : 2 ≤ R.frames ∧ 43 ≤ R.locals) (hc : ce ≤ R.cells ∧ sl ≤ R.slots) (hW : (st.map fun v => v.category).sum ≤ 8) (hdg : decode cc pc = .ok (.invokevirtual 246, 3)) (kk : TW p l e0 R s m args below meth c Q D vwCl A (kW K δ sr ρ dy) nL ce sl (pS g (tok n tp e).1 (tok n tp e).2) (pc + 3) lv st) : TW p l e0 R s m args below meth c Q D vwCl A (kW K δ sr ρ dy) nL ce sl (pS g a e) pc lv (.ref (K 0) :: st) :=
  tw_callVv (As := []) (st := st) X (kC_next (kw_next t he)) kGX0_246 kI_X0_next ⟨hR.1, hR.2⟩ hc 0 rfl rfl rfl rfl hW hdg kk
theorem kx_ofF (x : Int32) : CX l yX1_of cX1_of 2 (some (.object "HadForVoice$Refusal")) 0 0 0 0 D vwCl (kT δ) A aK aV (kW K δ sr ρ dy) [.ref (K 2), .int x] g (fun v t => v = some (.ref (K 2)) ∧ BW D vwCl A (kW K δ sr ρ dy) (up2 g 36 0 x) t) (fun _ _ _ => False) := by
  refine cx_intro (own := RX1) (lv0 := [(0, .ref (K 2)), (1, .int x)]) (by decide) rfl (Nat.le_of_ble_eq_true rfl) rfl ?_
  intro p e s m args below meth c Y hr hmn htab
  refine tw_aload_n Y.x dX1_of_0 rfl 0 rfl ?_
  refine tw_iload_n Y.x dX1_of_1 rfl 1 rfl ?_
  refine tw_put (g' := up2 g 36 0 x) (ty := .int) Y.x in_X2 tyX2 tyX2_ok nmX2 2 rfl rfl 6 (by decide) q228 rfl rfl rfl rfl rfl (Nat.le_of_ble_eq_true rfl) dX1_of_2 rfl ?_
  refine tw_aload_n Y.x dX1_of_5 rfl 0 rfl ?_
  exact tx_aret Y.x hr (Or.inl ⟨_, rfl⟩) (Or.inr ⟨_, rfl⟩) (Nat.le_refl _) (Nat.le_refl _) (fun t b => ⟨rfl, b⟩) dX1_of_6
theorem kx_faultHere : CX l yX0_faultHere cX0_faultHere 1 (some (.object "HadForVoice$Refusal")) 1 21 0 0 D vwCl (kT δ) A aK aV (kW K δ sr ρ dy) [.ref (K 0)] g (fun v t => v = some (.ref (K 2)) ∧ BW D vwCl A (kW K δ sr ρ dy) (up2 g 36 0 (g 0 12)) t) (fun _ _ _ => False) := by
  refine cx_intro (own := RX0) (lv0 := [(0, .ref (K 0))]) (by decide) rfl (Nat.le_of_ble_eq_true rfl) rfl ?_
  intro p e s m args below meth c Y hr hmn htab
  refine tw_aload_n Y.x dX0_faultHere_0 rfl 0 rfl ?_
  refine kgX0_40_0 Y.x dX0_faultHere_1 ?_
  refine tw_aload_n Y.x dX0_faultHere_4 rfl 0 rfl ?_
  refine kgX0_225_0 Y.x dX0_faultHere_5 ?_
  refine tx_callU (n := 1) (b := K 2) (As := [.int (g 0 12)]) (st := []) Y (kx_ofF (g 0 12)) (va_cwU 1 Y.x.hts (lw_U q729 q730 q732 q733 q120 q734) rfl rfl rfl rfl (by decide +kernel) ⟨Nat.le_of_ble_eq_true rfl, Nat.le_of_ble_eq_true rfl⟩) ⟨Nat.zero_le _, Nat.zero_le _⟩ 2 rfl rfl rfl rfl (Nat.zero_le _) dX0_faultHere_8 (fun E x t h => h.elim) (fun v t h => ?_)
  obtain ⟨rfl, hb⟩ := h
  exact TW.at (tx_aret Y.x hr (Or.inl ⟨_, rfl⟩) (Or.inr ⟨_, rfl⟩) (Nat.le_refl _) (Nat.le_refl _) (fun t b => ⟨rfl, b⟩) dX0_faultHere_11) hb
theorem kx_isName (t : PT g n tp) (h : TK n tp a e) {i : Nat} (hi : i < 21) : CX l yX0_isName cX0_isName 3 (some .boolean) 4 90 0 0 D vwCl (kT δ) A aK aV (kW K δ sr ρ dy) [.ref (K 0), .ref (aK i)] (pS g a e) (fun v t => v = some (.int (zI (wrd tp a e i))) ∧ BW D vwCl A (kW K δ sr ρ dy) (pS g a e) t) (fun _ _ _ => False) := by
  refine cx_intro (own := RX0) (lv0 := [(0, .ref (K 0)), (1, .ref (aK i))]) (by decide) rfl (Nat.le_of_ble_eq_true rfl) rfl ?_
  intro p e1 s m args below meth c Y hr hmn htab
  have X := Y.x
  have hb := h.bd
  have hn := t.1
  have hs6 := (sByt_len i hi).2
  obtain ⟨hsl, hsb⟩ := sW_b i hi
  refine tw_aload_n X dX0_isName_0 rfl 0 rfl ?_
  refine kgX0_222_0 X dX0_isName_1 ?_
  refine tw_aload_n X dX0_isName_4 rfl 0 rfl ?_
  refine kgX0_225_0 X dX0_isName_5 ?_
  refine tw_isub X dX0_isName_8 ?_
  rw [pS_a, pS_e, pk_sub hb.1]
  refine tw_aload_n X dX0_isName_9 rfl 1 rfl ?_
  refine tx_callG (n := 0) (C := RJ5) (b := aK i) (As := []) (st := [.int (nI (e - a))]) Y (kS_length hi) (lw_V q747 q748 q749 q134 q750) ⟨rfl, by decide +kernel⟩ ⟨Nat.le_of_ble_eq_true rfl, Nat.le_of_ble_eq_true rfl⟩ ⟨Nat.zero_le _, Nat.zero_le _⟩ (ts_rv Y hi) rfl rfl (Nat.le_of_ble_eq_true rfl) dX0_isName_10 (fun E x t h => h.elim) (fun v t1 h1 => ?_)
  obtain ⟨rfl, hb1⟩ := h1
  refine TW.at ?_ hb1
  refine tw_icmp_eq (a := ()) (b := ()) (z := ()) (tgt := 18) X dX0_isName_13 rfl (ite_self _) (fun q _ => ?_) (fun q _ => ?_)
  · rw [nI_eq (by omega) (by omega)] at q
    refine tw_iconst (v := 0) X dX0_isName_18 rfl ?_
    refine tw_istore_n (lv' := [(2, .int (nI 0)), (0, .ref (K 0)), (1, .ref (aK i))]) X dX0_isName_19 rfl (by decide) rfl ?_
    have loop : ∀ (mm k : Nat), k + mm = sLen.getD i 0 → (∀ j, j < k → tp (a + j) = (sW.getD i []).getD j 0) → TW p l e1 (romX 4 90 0 0) s m args below meth c (vx_MQ below (QO A (fun v t => v = some (.int (zI (wrd tp a e i))) ∧ BW D vwCl A (kW K δ sr ρ dy) (pS g a e) t)) (XO A (fun _ _ _ => False)) args s 0 0 A) D vwCl A (kW K δ sr ρ dy) 3 0 0 (pS g a e) 20 [(2, .int (nI k)), (0, .ref (K 0)), (1, .ref (aK i))] [] := by
      intro mm
      induction mm with
      | zero =>
        intro k hk hj
        have ek : k = sLen.getD i 0 := by omega
        refine tw_iload_n X dX0_isName_20 rfl 0 rfl ?_
        refine tw_aload_n X dX0_isName_21 rfl 2 rfl ?_
        refine tx_callG (n := 0) (C := RJ5) (b := aK i) (As := []) (st := [.int (nI k)]) Y (kS_length hi) (lw_V q747 q748 q749 q134 q750) ⟨rfl, by decide +kernel⟩ ⟨Nat.le_of_ble_eq_true rfl, Nat.le_of_ble_eq_true rfl⟩ ⟨Nat.zero_le _, Nat.zero_le _⟩ (ts_rv Y hi) rfl rfl (Nat.le_of_ble_eq_true rfl) dX0_isName_22 (fun E x t h => h.elim) (fun v t1 h1 => ?_)
        obtain ⟨rfl, hb1⟩ := h1
        refine TW.at ?_ hb1
        refine tw_icmp_ge (a := ()) (b := ()) (z := ()) (tgt := 55) X dX0_isName_25 rfl (ite_self _) (fun _ _ => ?_) (fun z _ => absurd (nI_le (by omega) (by omega)) z)
        refine tw_iconst (v := 1) X dX0_isName_55 rfl ?_
        refine tx_zret X hr (Or.inr rfl) (Nat.le_refl _) (Nat.le_refl _) (fun t b => ⟨?_, b⟩) dX0_isName_56
        have : wrd tp a e i = true := by
          unfold wrd
          rw [hsl, decide_eq_true q, decide_eq_true (by rw [← ek]; exact hj)]
          rfl
        rw [this]
        rfl
      | succ mm ih =>
        intro k hk hj
        have hb2 := t.2.2 (a + k) (by omega)
        obtain ⟨hc1, hc2⟩ := hsb k (by omega)
        refine tw_iload_n X dX0_isName_20 rfl 0 rfl ?_
        refine tw_aload_n X dX0_isName_21 rfl 2 rfl ?_
        refine tx_callG (n := 0) (C := RJ5) (b := aK i) (As := []) (st := [.int (nI k)]) Y (kS_length hi) (lw_V q747 q748 q749 q134 q750) ⟨rfl, by decide +kernel⟩ ⟨Nat.le_of_ble_eq_true rfl, Nat.le_of_ble_eq_true rfl⟩ ⟨Nat.zero_le _, Nat.zero_le _⟩ (ts_rv Y hi) rfl rfl (Nat.le_of_ble_eq_true rfl) dX0_isName_22 (fun E x t h => h.elim) (fun v t1 h1 => ?_)
        obtain ⟨rfl, hb1⟩ := h1
        refine TW.at ?_ hb1
        refine tw_icmp_ge (a := ()) (b := ()) (z := ()) (tgt := 55) X dX0_isName_25 rfl (ite_self _) (fun z _ => absurd z (nI_ge (by omega) (by omega))) (fun _ _ => ?_)
        refine tw_aload_n X dX0_isName_28 rfl 1 rfl ?_
        refine kgX0_103_0 X dX0_isName_29 ?_
        refine tw_aload_n X dX0_isName_32 rfl 1 rfl ?_
        refine kgX0_225_0 X dX0_isName_33 ?_
        refine tw_iload_n X dX0_isName_36 rfl 0 rfl ?_
        refine tw_iadd X dX0_isName_37 ?_
        refine klX0_11 (x := sb (tp (a + k))) X (by rw [pS_a, nI_add, rd_n (by omega) (by decide), pS_o (by decide), hb2.2]) dX0_isName_38 ?_
        refine tw_aload_n X dX0_isName_39 rfl 2 rfl ?_
        refine tw_iload_n X dX0_isName_40 rfl 0 rfl ?_
        refine tx_callG (n := 1) (C := RJ5) (b := aK i) (As := [.int (nI k)]) (st := [.int (sb (tp (a + k)))]) Y (kS_charAt hi (by omega)) (lw_V q757 q758 q759 q134 q760) ⟨rfl, by decide +kernel⟩ ⟨Nat.le_of_ble_eq_true rfl, Nat.le_of_ble_eq_true rfl⟩ ⟨Nat.zero_le _, Nat.zero_le _⟩ (ts_rv Y hi) rfl rfl (Nat.le_of_ble_eq_true rfl) dX0_isName_41 (fun E x t h => h.elim) (fun v t1 h1 => ?_)
        obtain ⟨rfl, hb1⟩ := h1
        refine TW.at ?_ hb1
        have hq : sb (tp (a + k)) = (sByt.getD i []).getD k 0 ↔ tp (a + k) = (sW.getD i []).getD k 0 := by
          rw [hc1]
          exact sb_eq hb2.1 hc2
        refine tw_icmp_eq (a := ()) (b := ()) (z := ()) (tgt := 49) X dX0_isName_44 rfl (ite_self _) (fun z _ => ?_) (fun z _ => ?_)
        · refine tw_iinc (q := 0) (v := nI (k + 1)) (lv' := [(2, .int (nI (k + 1))), (0, .ref (K 0)), (1, .ref (aK i))]) X dX0_isName_49 rfl (nI_1 k) (by decide) rfl ?_
          refine tw_goto (tgt := 20) X dX0_isName_52 rfl ?_
          refine ih (k + 1) (by omega) (fun j hj2 => ?_)
          by_cases ej : j = k
          · subst ej
            exact hq.mp z
          · exact hj j (by omega)
        · refine tw_iconst (v := 0) X dX0_isName_47 rfl ?_
          refine tx_zret X hr (Or.inl rfl) (Nat.le_refl _) (Nat.le_refl _) (fun t b => ⟨?_, b⟩) dX0_isName_48
          have : wrd tp a e i = false := by
            unfold wrd
            rw [hsl, decide_eq_false (p := ∀ k, k < sLen.getD i 0 → tp (a + k) = (sW.getD i []).getD k 0) (fun w => z (hq.mpr (w k (by omega))))]
            exact Bool.and_false _
          rw [this]
          rfl
    exact loop (sLen.getD i 0) 0 (by omega) (fun j hj => by omega)
  · rw [nI_eq (by omega) (by omega)] at q
    refine tw_iconst (v := 0) X dX0_isName_16 rfl ?_
    refine tx_zret X hr (Or.inl rfl) (Nat.le_refl _) (Nat.le_refl _) (fun t b => ⟨?_, b⟩) dX0_isName_17
    have : wrd tp a e i = false := by
      unfold wrd
      rw [hsl, decide_eq_false q]
      rfl
    rw [this]
    rfl
/-- the state when a word was asked for: gone by, if it stood there -/
def gW (g : St) (n : Nat) (tp : Nat → Nat) (a e : Nat) (b : Bool) : St := if b = true then pS g (tok n tp e).1 (tok n tp e).2 else pS g a e
theorem kx_goesOn (t : PT g n tp) (h : TK n tp a e) {i : Nat} (hi : i < 21) : CX l yX0_goesOn cX0_goesOn 2 (some .boolean) 5 112 0 0 D vwCl (kT δ) A aK aV (kW K δ sr ρ dy) [.ref (K 0), .ref (aK i)] (pS g a e) (fun v t => v = some (.int (zI (wrd tp a e i))) ∧ BW D vwCl A (kW K δ sr ρ dy) (gW g n tp a e (wrd tp a e i)) t) (fun _ _ _ => False) := by
  refine cx_intro (own := RX0) (lv0 := [(0, .ref (K 0)), (1, .ref (aK i))]) (by decide) rfl (Nat.le_of_ble_eq_true rfl) rfl ?_
  intro p e1 s m args below meth c Y hr hmn htab
  have X := Y.x
  refine tw_aload_n X dX0_goesOn_0 rfl 0 rfl ?_
  refine tw_aload_n X dX0_goesOn_1 rfl 1 rfl ?_
  refine tx_callV (n := 1) (b := K 0) (As := [.ref (aK i)]) (st := []) Y (kx_isName t h hi) kGX0_242 kI_X0_isName ⟨Nat.le_of_ble_eq_true rfl, Nat.le_of_ble_eq_true rfl⟩ ⟨Nat.zero_le _, Nat.zero_le _⟩ 0 rfl rfl rfl rfl (Nat.zero_le _) dX0_goesOn_2 (fun E x t h => h.elim) (fun v t1 h1 => ?_)
  obtain ⟨rfl, hb1⟩ := h1
  refine TW.at ?_ hb1
  refine tw_if_ne (a := ()) (b := ()) (z := ()) (tgt := 10) X dX0_goesOn_5 rfl (ite_self _) (fun q _ => ?_) (fun q _ => ?_)
  · have hw := zI_ne.mp q
    refine tw_iconst (v := 0) X dX0_goesOn_8 rfl ?_
    refine tx_zret X hr (Or.inl rfl) (Nat.le_refl _) (Nat.le_refl _) (fun t b => ⟨by rw [hw]; rfl, by rw [hw]; exact b⟩) dX0_goesOn_9
  · have hw : wrd tp a e i = true := by
      cases z : wrd tp a e i
      · rw [z] at q
        exact absurd rfl q
      · rfl
    refine tw_aload_n X dX0_goesOn_10 rfl 0 rfl ?_
    refine tp_next X t h.bd.2 ⟨Nat.le_of_ble_eq_true rfl, Nat.le_of_ble_eq_true rfl⟩ ⟨Nat.zero_le _, Nat.zero_le _⟩ (Nat.zero_le _) dX0_goesOn_11 ?_
    refine tw_iconst (v := 1) X dX0_goesOn_14 rfl ?_
    refine tx_zret X hr (Or.inr rfl) (Nat.le_refl _) (Nat.le_refl _) (fun t b => ⟨by rw [hw]; rfl, by rw [hw]; exact b⟩) dX0_goesOn_15
/-- the fault thrown at a place -/
def FX (D : va_G) (A : Nat → Prop) (K : Nat → Nat) (δ : Nat → ClassId) (sr ρ : Rf) (dy : va_W) (g : St) (x : Nat) : Addr → String → State → Prop := fun q E t => q = K 2 ∧ E = "HadForVoice$Fault" ∧ ∃ ext a e, BW D vwCl A (kW K δ sr ρ (dy ++ ext)) (up2 (pS g a e) 36 0 (nI x)) t
theorem FX.of {a e x : Nat} {t : State} (b : BW D vwCl A (kW K δ sr ρ dy) (up2 (pS g a e) 36 0 (nI x)) t) : FX D A K δ sr ρ dy g x (K 2) "HadForVoice$Fault" t := ⟨rfl, rfl, [], a, e, by rw [List.append_nil]; exact b⟩
/-- throw faultHere() -/
theorem tp_fault (Y : CY p c cc nL s args RX0 m meth D vwCl (kT δ) A aK aV) (hR : 2 ≤ R.frames ∧ 41 ≤ R.locals) (hc : ce ≤ R.cells ∧ sl ≤ R.slots) {d2 : decode cc pc = .ok (.invokevirtual 252, 3)} (hd2 : decode cc (pc + 3) = .ok (.athrow, 1)) (kk : ∀ t : State, BW D vwCl A (kW K δ sr ρ dy) (up2 (pS g a e) 36 0 (nI a)) t → TV p l e0 R s m args below meth c Q A nL ce sl t.heap (pc + 3) lv [] "HadForVoice$Fault" (K 2)) : TW p l e0 R s m args below meth c Q D vwCl A (kW K δ sr ρ dy) nL ce sl (pS g a e) pc lv [.ref (K 0)] := by
  refine tx_callV (n := 0) (b := K 0) (As := []) (st := []) Y kx_faultHere kGX0_252 kI_X0_faultHere ⟨hR.1, hR.2⟩ ⟨hc.1, hc.2⟩ 0 rfl rfl rfl rfl (Nat.zero_le _) d2 (fun E x t h => h.elim) (fun v t1 h1 => ?_)
  obtain ⟨rfl, hb1⟩ := h1
  rw [pS_a] at hb1
  refine TW.at ?_ hb1
  exact tx_throw (q0 := 2) Y.x rfl rfl hd2 kk
theorem kx_want (t : PT g n tp) (h : TK n tp a e) {i : Nat} (hi : i < 21) : CX l yX0_want cX0_want 2 none 6 140 0 0 D vwCl (kT δ) A aK aV (kW K δ sr ρ dy) [.ref (K 0), .ref (aK i)] (pS g a e) (fun v t => wrd tp a e i = true ∧ v = none ∧ BW D vwCl A (kW K δ sr ρ dy) (pS g (tok n tp e).1 (tok n tp e).2) t) (fun q E t => wrd tp a e i = false ∧ FX D A K δ sr ρ dy g a q E t) := by
  refine cx_intro (own := RX0) (lv0 := [(0, .ref (K 0)), (1, .ref (aK i))]) (by decide) rfl (Nat.le_of_ble_eq_true rfl) rfl ?_
  intro p e1 s m args below meth c Y hr hmn htab
  have X := Y.x
  refine tw_aload_n X dX0_want_0 rfl 0 rfl ?_
  refine tw_aload_n X dX0_want_1 rfl 1 rfl ?_
  refine tx_callV (n := 1) (b := K 0) (As := [.ref (aK i)]) (st := []) Y (kx_goesOn t h hi) kGX0_249 kI_X0_goesOn ⟨Nat.le_of_ble_eq_true rfl, Nat.le_of_ble_eq_true rfl⟩ ⟨Nat.zero_le _, Nat.zero_le _⟩ 0 rfl rfl rfl rfl (Nat.zero_le _) dX0_want_2 (fun E x t h => h.elim) (fun v t1 h1 => ?_)
  obtain ⟨rfl, hb1⟩ := h1
  refine TW.at ?_ hb1
  refine tw_if_ne (a := ()) (b := ()) (z := ()) (tgt := 13) X dX0_want_5 rfl (ite_self _) (fun q _ => ?_) (fun q _ => ?_)
  · have hw := zI_ne.mp q
    rw [show gW g n tp a e (wrd tp a e i) = pS g a e by rw [hw]; rfl]
    refine tw_aload_n X dX0_want_8 rfl 0 rfl ?_
    refine tp_fault Y ⟨Nat.le_of_ble_eq_true rfl, Nat.le_of_ble_eq_true rfl⟩ ⟨Nat.zero_le _, Nat.zero_le _⟩ (d2 := dX0_want_9) dX0_want_12 (fun t b => ?_)
    exact tx_out X htab (Nat.le_refl _) (Nat.le_refl _) (fun t2 e2 => ⟨hw, FX.of ⟨by rw [e2]; exact b.1, b.2⟩⟩)
  · have hw : wrd tp a e i = true := by
      cases z : wrd tp a e i
      · rw [z] at q
        exact absurd rfl q
      · rfl
    rw [show gW g n tp a e (wrd tp a e i) = pS g (tok n tp e).1 (tok n tp e).2 by rw [hw]; rfl]
    exact tx_vret X hr (Nat.le_refl _) (Nat.le_refl _) (fun t b => ⟨hw, rfl, b⟩) dX0_want_13
end KP1
