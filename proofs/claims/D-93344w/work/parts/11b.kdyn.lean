/-! conditions, rules, what people ask: objects in dy -/
set_option maxRecDepth 100000
section KD2
variable {p : Program} {l : Launch} {e : Env} {R : Room} {s : State} {m : MethodId} {args : Array Value} {below : List Frame} {meth : Method} {c : Code} {Q : State → Prop} {D : va_G} {A : Nat → Prop} {nL ce sl : Nat} {g g' : St} {pc : Nat} {lv : List (Nat × Value)} {st : List Value} {cc : ByteArray} {K : Nat → Nat} {δ : Nat → ClassId} {sr ρ : Rf} {dy : va_W} {own : String}
theorem tw_getD (X : Cx p c cc nL s args own m meth D vwCl (kT δ) A) {b ci : Nat} {fs : List Value} (hm : (b, (.inr (ci, fs) : va_E)) ∈ dy) {ref C : String} {T : u_T} {N index : Nat} (hin : ∀ w ∈ u_ws C T N, w ∈ lw_all) (hc : vwCl[ci]? = some (C, T, N)) (k : Nat) (hk : k < N) (hlink : Cond.fieldLink own index ref (T k).2.1 (T k).2.2.1 ∈ lw_all) (hsame : (T k).1 = ref) {v : Value} (hv : fs[k]? = some v) (hdg : decode cc pc = .ok (.getfield index, 3)) (kk : TW p l e R s m args below meth c Q D vwCl A (kW K δ sr ρ dy) nL ce sl g (pc + 3) lv (v :: st)) : TW p l e R s m args below meth c Q D vwCl A (kW K δ sr ρ dy) nL ce sl g pc lv (.ref b :: st) := by
  obtain ⟨q0, he⟩ := kW_dy (K := K) (sr := sr) (ρ := ρ) (δ := δ) (g := g) hm
  exact tw_get X hin q0 he hc k hk hlink hsame hv hdg kk
theorem tw_getDS (X : Cx p c cc nL s args own m meth D vwCl (kT δ) A) {b ci : Nat} {fs : List Value} (hm : (b, (.inr (ci, fs) : va_E)) ∈ dy) {ref C : String} {T : u_T} {N index : Nat} (hin : ∀ w ∈ u_ws C T N, w ∈ lw_all) (hc : vwCl[ci]? = some (C, T, N)) (k : Nat) (hk : k < N) (hlink : Cond.fieldLink own index ref (T k).2.1 (T k).2.2.1 ∈ lw_all) (hsame : Cond.sameField ref (T k).1 (T k).2.1 (T k).2.2.1 ∈ lw_all) {v : Value} (hv : fs[k]? = some v) (hdg : decode cc pc = .ok (.getfield index, 3)) (kk : TW p l e R s m args below meth c Q D vwCl A (kW K δ sr ρ dy) nL ce sl g (pc + 3) lv (v :: st)) : TW p l e R s m args below meth c Q D vwCl A (kW K δ sr ρ dy) nL ce sl g pc lv (.ref b :: st) := by
  obtain ⟨q0, he⟩ := kW_dy (K := K) (sr := sr) (ρ := ρ) (δ := δ) (g := g) hm
  exact fun H locs ls hl hP hD hS => va_get X.hx X.hb X.hts hin X.hown X.hK hP q0 he hc k hk (X.hts _ hlink) (u_same (X.hts _ hsame)) hv hdg (kk H locs ls hl hP hD hS)
theorem u_if (q : Prop) [Decidable q] : (if q then () else ()) = () := by split <;> rfl
def fVal (f1 n1 : Int32) (f : Nat → Int32) : Int32 := if f1 < 0 then n1 else f f1.toNatClampNeg
theorem dC_of {b : Nat} {f1 n1 : Int32} (hm : (b, (.inr (12, [.int f1, .int n1]) : va_E)) ∈ dy) (h5 : f1 < 5) : Ct l yX15_of cX15_of 2 (some .int) 0 0 D vwCl (kT δ) A (kW K δ sr ρ dy) [.ref b, .ref (K 15)] g (QI D vwCl A (kW K δ sr ρ dy) (fVal f1 n1 (g 15)) g) := by
  refine ct_intro (own := RX15) (lv0 := [(0, .ref b), (1, .ref (K 15))]) (by decide) rfl (Nat.le_of_ble_eq_true rfl) rfl ?_
  intro p e s m args below meth c X hr
  refine tw_aload_n X dX15_of_0 rfl 0 rfl ?_
  refine tw_getD X hm in_X15 rfl 0 (by decide) q842 rfl rfl dX15_of_1 ?_
  refine tw_if_ge (tgt := 14) (a := ()) (b := ()) (z := ()) X dX15_of_4 rfl (u_if _) (fun q _ => ?_) (fun q _ => ?_)
  · refine tw_aload_n X dX15_of_14 rfl 1 rfl ?_
    refine tw_aload_n X dX15_of_15 rfl 0 rfl ?_
    refine tw_getD X hm in_X15 rfl 0 (by decide) q842 rfl rfl dX15_of_16 ?_
    have hlt : ¬ f1 < 0 := fun z => by
      rw [Int32.lt_iff_toInt_lt] at z
      rw [Int32.le_iff_toInt_le] at q
      omega
    have hin : vp_in f1 5 := by
      rw [vp_in_iff]
      rw [Int32.lt_iff_toInt_lt] at h5
      rw [Int32.le_iff_toInt_le] at q
      have e5 : (5 : Int32).toInt = 5 := by decide
      have e0 : (0 : Int32).toInt = 0 := by decide
      rw [e5] at h5
      rw [e0] at q
      exact ⟨q, h5⟩
    refine tw_iald (x := g 15 f1.toNatClampNeg) (cA := δ 0) (n := 5) (f := g 15) X 50 0 rfl rfl (by unfold rd; rw [if_neg hin]) dX15_of_19 ?_
    exact tw_iret X hr (by unfold fVal; rw [if_neg hlt]) rfl dX15_of_20
  · refine tw_aload_n X dX15_of_7 rfl 0 rfl ?_
    refine tw_getD X hm in_X15 rfl 1 (by decide) q843 rfl rfl dX15_of_8 ?_
    refine tw_goto (tgt := 20) X dX15_of_11 rfl ?_
    exact tw_iret X hr (by unfold fVal; rw [if_pos (by rw [Int32.lt_iff_toInt_lt]; rw [Int32.le_iff_toInt_le] at q; omega)]) rfl dX15_of_20
/-- a condition at b: whatever its class, its method answers r -/
def HC (l : Launch) (D : va_G) (A : Nat → Prop) (K : Nat → Nat) (δ : Nat → ClassId) (sr ρ : Rf) (dy : va_W) (fr lo b : Nat) (g : St) (r : Int32) : Prop :=
  (∃ fs, (b, (.inr (13, fs) : va_E)) ∈ dy ∧ Ct l yX14_holds cX14_holds 2 (some .boolean) fr lo D vwCl (kT δ) A (kW K δ sr ρ dy) [.ref b, .ref (K 15)] g (QZ D vwCl A (kW K δ sr ρ dy) r g)) ∨
  (∃ fs, (b, (.inr (15, fs) : va_E)) ∈ dy ∧ Ct l yX17_holds cX17_holds 2 (some .boolean) fr lo D vwCl (kT δ) A (kW K δ sr ρ dy) [.ref b, .ref (K 15)] g (QZ D vwCl A (kW K δ sr ρ dy) r g)) ∨
  (∃ fs, (b, (.inr (16, fs) : va_E)) ∈ dy ∧ Ct l yX18_holds cX18_holds 2 (some .boolean) fr lo D vwCl (kT δ) A (kW K δ sr ρ dy) [.ref b, .ref (K 15)] g (QZ D vwCl A (kW K δ sr ρ dy) r g)) ∨
  (∃ fs, (b, (.inr (14, fs) : va_E)) ∈ dy ∧ Ct l yX16_holds cX16_holds 4 (some .boolean) fr lo D vwCl (kT δ) A (kW K δ sr ρ dy) [.ref b, .ref (K 15)] g (QZ D vwCl A (kW K δ sr ρ dy) r g))
abbrev xHolds : MethodName := ⟨"HadForVoice$Cond", "holds", "([I)Z"⟩
theorem xH_d : "HadForVoice$Cond" ≠ "java/lang/invoke/MethodHandle" ∧ "HadForVoice$Cond" ≠ "java/lang/invoke/VarHandle" ∧ (parseMethodDescriptor xHolds.desc).map (fun d => d.parameters.length) = some 1 := by decide +kernel
theorem tw_hold (X : Cx p c cc nL s args own m meth D vwCl (kT δ) A) {index fr lo b : Nat} {r : Int32} (hl : Cond.methodLink own index xHolds ∈ lw_all) (h : HC l D A K δ sr ρ dy fr lo b g r) (hR : fr + 1 ≤ R.frames ∧ 23 + lo ≤ R.locals) (hc : ce ≤ R.cells ∧ sl ≤ R.slots) (hW : (st.map fun v => v.category).sum ≤ 8) (hdg : decode cc pc = .ok (.invokevirtual index, 3)) (kk : zb r → TW p l e R s m args below meth c Q D vwCl A (kW K δ sr ρ dy) nL ce sl g (pc + 3) lv (.int r :: st)) : TW p l e R s m args below meth c Q D vwCl A (kW K δ sr ρ dy) nL ce sl g pc lv (.ref (K 15) :: .ref b :: st) := by
  rcases h with ⟨fs, hm, hM⟩ | ⟨fs, hm, hM⟩ | ⟨fs, hm, hM⟩ | ⟨fs, hm, hM⟩
  · obtain ⟨q0, he⟩ := kW_dy (K := K) (sr := sr) (ρ := ρ) (δ := δ) (g := g) hm
    exact tw_callUz (As := [.ref (K 15)]) (st := st) X hM (va_cwA 1 X.hts (lw_U hl q609 q627 q620 q139 q621) rfl rfl rfl (X.hN.1 _ nq608) xH_d ⟨hR.1, by show 8 + (2 + 11) + lo ≤ _; omega⟩) hc q0 he rfl rfl rfl hW hdg kk
  · obtain ⟨q0, he⟩ := kW_dy (K := K) (sr := sr) (ρ := ρ) (δ := δ) (g := g) hm
    exact tw_callUz (As := [.ref (K 15)]) (st := st) X hM (va_cwA 1 X.hts (lw_U hl q609 q610 q611 q142 q612) rfl rfl rfl (X.hN.1 _ nq608) xH_d ⟨hR.1, by show 8 + (2 + 11) + lo ≤ _; omega⟩) hc q0 he rfl rfl rfl hW hdg kk
  · obtain ⟨q0, he⟩ := kW_dy (K := K) (sr := sr) (ρ := ρ) (δ := δ) (g := g) hm
    exact tw_callUz (As := [.ref (K 15)]) (st := st) X hM (va_cwA 1 X.hts (lw_U hl q609 q628 q623 q143 q624) rfl rfl rfl (X.hN.1 _ nq608) xH_d ⟨hR.1, by show 8 + (2 + 11) + lo ≤ _; omega⟩) hc q0 he rfl rfl rfl hW hdg kk
  · obtain ⟨q0, he⟩ := kW_dy (K := K) (sr := sr) (ρ := ρ) (δ := δ) (g := g) hm
    exact tw_callUz (As := [.ref (K 15)]) (st := st) X hM (va_cwA 1 X.hts (lw_U hl q609 q626 q614 q141 q615) rfl rfl rfl (X.hN.1 _ nq608) xH_d ⟨hR.1, by show 8 + (4 + 11) + lo ≤ _; omega⟩) hc q0 he rfl rfl rfl hW hdg kk
theorem dI_of : yX15_of.cls = RX15 ∧ yX15_of.cls ≠ "java/lang/invoke/MethodHandle" ∧ yX15_of.cls ≠ "java/lang/invoke/VarHandle" ∧ (parseMethodDescriptor yX15_of.desc).map (fun d => d.parameters.length) = some 1 := by decide +kernel
theorem dG_of : GoodIn lw_all (wsV RX16 20 RX15 yX15_of (ws_ yX15_of cX15_of 2 (some .int))) := lw_V q616 q617 q618 q140 q619
def zI (b : Bool) : Int32 := if b then 1 else 0
theorem zI_b (b : Bool) : zb (zI b) := by cases b; exact Or.inl rfl; exact Or.inr rfl
theorem zI_ne {b : Bool} : zI b = 0 ↔ b = false := by cases b <;> decide
set_option maxHeartbeats 4000000 in
theorem dC_asks {fr lo : Nat} (hfr : 1 ≤ fr) (hlo : 21 ≤ lo) {b b1 b2 : Nat} {f1 n1 f2 n2 sg : Int32} (hm : (b, (.inr (14, [.ref b1, .ref b2, .int sg]) : va_E)) ∈ dy) (hm1 : (b1, (.inr (12, [.int f1, .int n1]) : va_E)) ∈ dy) (hm2 : (b2, (.inr (12, [.int f2, .int n2]) : va_E)) ∈ dy) (h1 : f1 < 5) (h2 : f2 < 5) {r : Int32} (hr0 : (if sg = 60 then zI (decide (fVal f1 n1 (g 15) < fVal f2 n2 (g 15))) else if sg = 61 then zI (decide (fVal f1 n1 (g 15) = fVal f2 n2 (g 15))) else zI (decide (fVal f2 n2 (g 15) < fVal f1 n1 (g 15)))) = r) : Ct l yX16_holds cX16_holds 4 (some .boolean) fr lo D vwCl (kT δ) A (kW K δ sr ρ dy) [.ref b, .ref (K 15)] g (QZ D vwCl A (kW K δ sr ρ dy) r g) := by
  refine ct_intro (own := RX16) (lv0 := [(0, .ref b), (1, .ref (K 15))]) (by decide) rfl (Nat.le_of_ble_eq_true rfl) rfl ?_
  intro p e s m args below meth c X hr
  refine tw_aload_n X dX16_holds_0 rfl 0 rfl ?_
  refine tw_getD X hm in_X16 rfl 0 (by decide) q859 rfl rfl dX16_holds_1 ?_
  refine tw_aload_n X dX16_holds_4 rfl 1 rfl ?_
  obtain ⟨k1, e1⟩ := kW_dy (K := K) (sr := sr) (ρ := ρ) (δ := δ) (g := g) hm1
  refine tw_callVi (As := [.ref (K 15)]) (st := []) X (dC_of hm1 h1) dG_of dI_of (rom_le (by omega) (by omega)) ⟨Nat.zero_le _, Nat.zero_le _⟩ k1 e1 rfl rfl rfl (Nat.le_of_ble_eq_true rfl) dX16_holds_5 ?_
  generalize hx : fVal f1 n1 (g 15) = x at hr0 ⊢
  refine tw_istore_n (lv' := [(2, .int x), (0, .ref b), (1, .ref (K 15))]) X dX16_holds_8 rfl (by decide) rfl ?_
  refine tw_aload_n X dX16_holds_9 rfl 1 rfl ?_
  refine tw_getD X hm in_X16 rfl 1 (by decide) q860 rfl rfl dX16_holds_10 ?_
  refine tw_aload_n X dX16_holds_13 rfl 2 rfl ?_
  obtain ⟨k2, e2⟩ := kW_dy (K := K) (sr := sr) (ρ := ρ) (δ := δ) (g := g) hm2
  refine tw_callVi (As := [.ref (K 15)]) (st := []) X (dC_of hm2 h2) dG_of dI_of (rom_le (by omega) (by omega)) ⟨Nat.zero_le _, Nat.zero_le _⟩ k2 e2 rfl rfl rfl (Nat.le_of_ble_eq_true rfl) dX16_holds_14 ?_
  generalize hy : fVal f2 n2 (g 15) = y at hr0 ⊢
  refine tw_istore_n (lv' := [(3, .int y), (2, .int x), (0, .ref b), (1, .ref (K 15))]) X dX16_holds_17 rfl (by decide) rfl ?_
  refine tw_aload_n X dX16_holds_18 rfl 2 rfl ?_
  refine tw_getD X hm in_X16 rfl 2 (by decide) q861 rfl rfl dX16_holds_19 ?_
  refine tw_bipush (v := 60) X dX16_holds_22 rfl ?_
  refine tw_icmp_ne (tgt := 40) X dX16_holds_24 rfl hr0 (fun q hr0 => ?_) (fun q hr0 => ?_)
  · refine tw_iload_n X dX16_holds_27 rfl 1 rfl ?_
    refine tw_iload_n X dX16_holds_28 rfl 0 rfl ?_
    refine tw_icmp_ge (tgt := 36) (a := ()) (b := ()) (z := ()) X dX16_holds_29 rfl (u_if _) (fun q _ => ?_) (fun q _ => ?_)
    · refine tw_iconst (v := 0) X dX16_holds_36 rfl ?_
      refine tw_goto (tgt := 72) X dX16_holds_37 rfl ?_
      exact tw_zret X hr (Or.inl rfl) (by rw [← hr0]; unfold zI; rw [if_neg]; simp only [decide_eq_true_eq]; rw [Int32.lt_iff_toInt_lt]; rw [Int32.le_iff_toInt_le] at q; omega) rfl dX16_holds_72
    · refine tw_iconst (v := 1) X dX16_holds_32 rfl ?_
      refine tw_goto (tgt := 72) X dX16_holds_33 rfl ?_
      exact tw_zret X hr (Or.inr rfl) (by rw [← hr0]; unfold zI; rw [if_pos]; simp only [decide_eq_true_eq]; rw [Int32.lt_iff_toInt_lt]; rw [Int32.le_iff_toInt_le] at q; omega) rfl dX16_holds_72
  · refine tw_aload_n X dX16_holds_40 rfl 2 rfl ?_
    refine tw_getD X hm in_X16 rfl 2 (by decide) q861 rfl rfl dX16_holds_41 ?_
    refine tw_bipush (v := 61) X dX16_holds_44 rfl ?_
    refine tw_icmp_ne (tgt := 62) X dX16_holds_46 rfl hr0 (fun q hr0 => ?_) (fun q hr0 => ?_)
    · refine tw_iload_n X dX16_holds_49 rfl 1 rfl ?_
      refine tw_iload_n X dX16_holds_50 rfl 0 rfl ?_
      refine tw_icmp_ne (tgt := 58) (a := ()) (b := ()) (z := ()) X dX16_holds_51 rfl (u_if _) (fun q _ => ?_) (fun q _ => ?_)
      · refine tw_iconst (v := 1) X dX16_holds_54 rfl ?_
        refine tw_goto (tgt := 72) X dX16_holds_55 rfl ?_
        exact tw_zret X hr (Or.inr rfl) (by rw [← hr0]; unfold zI; rw [if_pos]; simp only [decide_eq_true_eq]; exact q) rfl dX16_holds_72
      · refine tw_iconst (v := 0) X dX16_holds_58 rfl ?_
        refine tw_goto (tgt := 72) X dX16_holds_59 rfl ?_
        exact tw_zret X hr (Or.inl rfl) (by rw [← hr0]; unfold zI; rw [if_neg]; simp only [decide_eq_true_eq]; exact q) rfl dX16_holds_72
    · refine tw_iload_n X dX16_holds_62 rfl 1 rfl ?_
      refine tw_iload_n X dX16_holds_63 rfl 0 rfl ?_
      refine tw_icmp_le (tgt := 71) (a := ()) (b := ()) (z := ()) X dX16_holds_64 rfl (u_if _) (fun q _ => ?_) (fun q _ => ?_)
      · refine tw_iconst (v := 0) X dX16_holds_71 rfl ?_
        exact tw_zret X hr (Or.inl rfl) (by rw [← hr0]; unfold zI; rw [if_neg]; simp only [decide_eq_true_eq]; rw [Int32.lt_iff_toInt_lt]; rw [Int32.le_iff_toInt_le] at q; omega) rfl dX16_holds_72
      · refine tw_iconst (v := 1) X dX16_holds_67 rfl ?_
        refine tw_goto (tgt := 72) X dX16_holds_68 rfl ?_
        exact tw_zret X hr (Or.inr rfl) (by rw [← hr0]; unfold zI; rw [if_pos]; simp only [decide_eq_true_eq]; rw [Int32.lt_iff_toInt_lt]; rw [Int32.le_iff_toInt_le] at q; omega) rfl dX16_holds_72
set_option maxHeartbeats 4000000 in
theorem dC_not {b b1 fr lo : Nat} {u : Bool} (hm : (b, (.inr (13, [.ref b1]) : va_E)) ∈ dy) (h1 : HC l D A K δ sr ρ dy fr lo b1 g (zI u)) : Ct l yX14_holds cX14_holds 2 (some .boolean) (fr + 1) (lo + 23) D vwCl (kT δ) A (kW K δ sr ρ dy) [.ref b, .ref (K 15)] g (QZ D vwCl A (kW K δ sr ρ dy) (zI (!u)) g) := by
  refine ct_intro (own := RX14) (lv0 := [(0, .ref b), (1, .ref (K 15))]) (by decide) rfl (Nat.le_of_ble_eq_true rfl) rfl ?_
  intro p e s m args below meth c X hr
  refine tw_aload_n X dX14_holds_0 rfl 0 rfl ?_
  refine tw_getD X hm in_X14 rfl 0 (by decide) q822 rfl rfl dX14_holds_1 ?_
  refine tw_aload_n X dX14_holds_4 rfl 1 rfl ?_
  refine tw_hold (st := []) X q622 h1 ⟨Nat.le_refl _, by show 23 + lo ≤ lo + 23; omega⟩ ⟨Nat.zero_le _, Nat.zero_le _⟩ (Nat.le_of_ble_eq_true rfl) dX14_holds_5 ?_
  intro hz
  refine tw_if_ne (tgt := 15) (a := ()) (b := ()) (z := ()) X dX14_holds_8 rfl (u_if _) (fun q _ => ?_) (fun q _ => ?_)
  · refine tw_iconst (v := 1) X dX14_holds_11 rfl ?_
    refine tw_goto (tgt := 16) X dX14_holds_12 rfl ?_
    exact tw_zret X hr (Or.inr rfl) (by rw [zI_ne.mp q]; rfl) rfl dX14_holds_16
  · refine tw_iconst (v := 0) X dX14_holds_15 rfl ?_
    exact tw_zret X hr (Or.inl rfl) (by cases u; exact absurd rfl q; rfl) rfl dX14_holds_16
set_option maxHeartbeats 4000000 in
theorem dC_all {b b1 b2 fr lo : Nat} {u w : Bool} (hm : (b, (.inr (15, [.ref b1, .ref b2]) : va_E)) ∈ dy) (h1 : HC l D A K δ sr ρ dy fr lo b1 g (zI u)) (h2 : HC l D A K δ sr ρ dy fr lo b2 g (zI w)) : Ct l yX17_holds cX17_holds 2 (some .boolean) (fr + 1) (lo + 23) D vwCl (kT δ) A (kW K δ sr ρ dy) [.ref b, .ref (K 15)] g (QZ D vwCl A (kW K δ sr ρ dy) (zI (u && w)) g) := by
  refine ct_intro (own := RX17) (lv0 := [(0, .ref b), (1, .ref (K 15))]) (by decide) rfl (Nat.le_of_ble_eq_true rfl) rfl ?_
  intro p e s m args below meth c X hr
  refine tw_aload_n X dX17_holds_0 rfl 0 rfl ?_
  refine tw_getD X hm in_X17 rfl 0 (by decide) q876 rfl rfl dX17_holds_1 ?_
  refine tw_aload_n X dX17_holds_4 rfl 1 rfl ?_
  refine tw_hold (st := []) X q613 h1 ⟨Nat.le_refl _, by show 23 + lo ≤ lo + 23; omega⟩ ⟨Nat.zero_le _, Nat.zero_le _⟩ (Nat.le_of_ble_eq_true rfl) dX17_holds_5 ?_
  intro hz
  refine tw_if_eq (tgt := 26) (a := ()) (b := ()) (z := ()) X dX17_holds_8 rfl (u_if _) (fun q _ => ?_) (fun q _ => ?_)
  · refine tw_iconst (v := 0) X dX17_holds_26 rfl ?_
    exact tw_zret X hr (Or.inl rfl) (by rw [zI_ne.mp q]; rfl) rfl dX17_holds_27
  · refine tw_aload_n X dX17_holds_11 rfl 0 rfl ?_
    refine tw_getD X hm in_X17 rfl 1 (by decide) q879 rfl rfl dX17_holds_12 ?_
    refine tw_aload_n X dX17_holds_15 rfl 1 rfl ?_
    refine tw_hold (st := []) X q613 h2 ⟨Nat.le_refl _, by show 23 + lo ≤ lo + 23; omega⟩ ⟨Nat.zero_le _, Nat.zero_le _⟩ (Nat.le_of_ble_eq_true rfl) dX17_holds_16 ?_
    intro hz2
    refine tw_if_eq (tgt := 26) (a := ()) (b := ()) (z := ()) X dX17_holds_19 rfl (u_if _) (fun q2 _ => ?_) (fun q2 _ => ?_)
    · refine tw_iconst (v := 0) X dX17_holds_26 rfl ?_
      exact tw_zret X hr (Or.inl rfl) (by rw [zI_ne.mp q2]; cases u <;> rfl) rfl dX17_holds_27
    · refine tw_iconst (v := 1) X dX17_holds_22 rfl ?_
      refine tw_goto (tgt := 27) X dX17_holds_23 rfl ?_
      exact tw_zret X hr (Or.inr rfl) (by cases u; exact absurd rfl q; cases w; exact absurd rfl q2; rfl) rfl dX17_holds_27
set_option maxHeartbeats 4000000 in
theorem dC_some {b b1 b2 fr lo : Nat} {u w : Bool} (hm : (b, (.inr (16, [.ref b1, .ref b2]) : va_E)) ∈ dy) (h1 : HC l D A K δ sr ρ dy fr lo b1 g (zI u)) (h2 : HC l D A K δ sr ρ dy fr lo b2 g (zI w)) : Ct l yX18_holds cX18_holds 2 (some .boolean) (fr + 1) (lo + 23) D vwCl (kT δ) A (kW K δ sr ρ dy) [.ref b, .ref (K 15)] g (QZ D vwCl A (kW K δ sr ρ dy) (zI (u || w)) g) := by
  refine ct_intro (own := RX18) (lv0 := [(0, .ref b), (1, .ref (K 15))]) (by decide) rfl (Nat.le_of_ble_eq_true rfl) rfl ?_
  intro p e s m args below meth c X hr
  refine tw_aload_n X dX18_holds_0 rfl 0 rfl ?_
  refine tw_getDS X hm in_X18 rfl 0 (by decide) q877 q878 rfl dX18_holds_1 ?_
  refine tw_aload_n X dX18_holds_4 rfl 1 rfl ?_
  refine tw_hold (st := []) X q625 h1 ⟨Nat.le_refl _, by show 23 + lo ≤ lo + 23; omega⟩ ⟨Nat.zero_le _, Nat.zero_le _⟩ (Nat.le_of_ble_eq_true rfl) dX18_holds_5 ?_
  intro hz
  refine tw_if_ne (tgt := 22) (a := ()) (b := ()) (z := ()) X dX18_holds_8 rfl (u_if _) (fun q _ => ?_) (fun q _ => ?_)
  · refine tw_aload_n X dX18_holds_11 rfl 0 rfl ?_
    refine tw_getDS X hm in_X18 rfl 1 (by decide) q880 q881 rfl dX18_holds_12 ?_
    refine tw_aload_n X dX18_holds_15 rfl 1 rfl ?_
    refine tw_hold (st := []) X q625 h2 ⟨Nat.le_refl _, by show 23 + lo ≤ lo + 23; omega⟩ ⟨Nat.zero_le _, Nat.zero_le _⟩ (Nat.le_of_ble_eq_true rfl) dX18_holds_16 ?_
    intro hz2
    refine tw_if_eq (tgt := 26) (a := ()) (b := ()) (z := ()) X dX18_holds_19 rfl (u_if _) (fun q2 _ => ?_) (fun q2 _ => ?_)
    · refine tw_iconst (v := 0) X dX18_holds_26 rfl ?_
      exact tw_zret X hr (Or.inl rfl) (by rw [zI_ne.mp q2, zI_ne.mp q]; rfl) rfl dX18_holds_27
    · refine tw_iconst (v := 1) X dX18_holds_22 rfl ?_
      refine tw_goto (tgt := 27) X dX18_holds_23 rfl ?_
      exact tw_zret X hr (Or.inr rfl) (by cases w; exact absurd rfl q2; cases u <;> rfl) rfl dX18_holds_27
  · refine tw_iconst (v := 1) X dX18_holds_22 rfl ?_
    refine tw_goto (tgt := 27) X dX18_holds_23 rfl ?_
    exact tw_zret X hr (Or.inr rfl) (by cases u; exact absurd rfl q; rfl) rfl dX18_holds_27
theorem kd_holds : ∀ (n b : Nat) (φ : (Nat → Int32) → Bool), Rep dy n b φ → HC l D A K δ sr ρ dy (n + 1) (23 * n + 30) b g (zI (φ (g 15))) := by
  intro n
  induction n with
  | zero => intro b φ h; exact absurd h id
  | succ n ih =>
    intro b φ h
    have e1 : 23 * n + 30 + 23 = 23 * (n + 1) + 30 := by omega
    rcases h with ⟨b1, ψ, hm, h1, rfl⟩ | ⟨b1, b2, ψ, χ, hm, h1, h2, rfl⟩ | ⟨b1, b2, ψ, χ, hm, h1, h2, rfl⟩ | ⟨b1, b2, f1, n1, f2, n2, sg, hm, hm1, hm2, h1, h2, rfl⟩
    · refine Or.inl ⟨_, hm, ?_⟩
      rw [← e1]
      exact dC_not hm (ih b1 ψ h1)
    · refine Or.inr (Or.inl ⟨_, hm, ?_⟩)
      rw [← e1]
      exact dC_all hm (ih b1 ψ h1) (ih b2 χ h2)
    · refine Or.inr (Or.inr (Or.inl ⟨_, hm, ?_⟩))
      rw [← e1]
      exact dC_some hm (ih b1 ψ h1) (ih b2 χ h2)
    · refine Or.inr (Or.inr (Or.inr ⟨_, hm, ?_⟩))
      refine dC_asks (by omega) (by omega) hm hm1 hm2 h1 h2 ?_
      dsimp only
      by_cases q1 : sg = 60
      · rw [if_pos q1, if_pos q1]; rfl
      · rw [if_neg q1, if_neg q1]
        by_cases q2 : sg = 61
        · rw [if_pos q2, if_pos q2]; rfl
        · rw [if_neg q2, if_neg q2]; rfl
end KD2
def fCond (w : Option ((Nat → Int32) → Bool)) (f : Nat → Int32) : Int32 := match w with
  | none => 1
  | some φ => zI (φ f)
noncomputable def fIsFor (E : EE) (k : Nat) (of : Int32) (f : Nat → Int32) : Int32 := if kF_isOf of (rK E k).1 = 0 then 0 else fCond (rC E k) f
def fChanges (E : EE) (k : Nat) (p : Int32) : Int32 := if (rK E k).2.1 = 0 then p + (rK E k).2.2 else if (rK E k).2.1 = 1 then fMax0 (p - (rK E k).2.2) else 0
theorem dI_isOf : yX0_isOf.cls ≠ "java/lang/invoke/MethodHandle" ∧ yX0_isOf.cls ≠ "java/lang/invoke/VarHandle" ∧ (parseMethodDescriptor yX0_isOf.desc).map (fun d => d.parameters.length) = some 2 := by decide +kernel
section KD3
variable {p : Program} {l : Launch} {e : Env} {R : Room} {s : State} {m : MethodId} {args : Array Value} {below : List Frame} {meth : Method} {c : Code} {Q : State → Prop} {D : va_G} {A : Nat → Prop} {nL ce sl : Nat} {g g' : St} {pc : Nat} {lv : List (Nat × Value)} {st : List Value} {cc : ByteArray} {K : Nat → Nat} {δ : Nat → ClassId} {sr ρ : Rf} {dy : va_W} {own : String} {E : EE}
theorem RuleOK.cell {a : Nat} {k : Int32 × Int32 × Int32} {φ : Option ((Nat → Int32) → Bool)} (h : RuleOK dy a k φ) : ∃ v, (a, (.inr (17, [.int k.1, .int k.2.1, .int k.2.2, v]) : va_E)) ∈ dy := by
  rcases h with ⟨-, h⟩ | ⟨ψ, b, -, h, -⟩
  · exact ⟨_, h⟩
  · exact ⟨_, h⟩
set_option maxHeartbeats 4000000 in
theorem dC_isFor {a : Nat} {k : Int32 × Int32 × Int32} {φ : Option ((Nat → Int32) → Bool)} (h : RuleOK dy a k φ) {of : Int32} : Ct l yX19_isFor cX19_isFor 3 (some .boolean) 222 5120 D vwCl (kT δ) A (kW K δ sr ρ dy) [.ref a, .int of, .ref (K 15)] g (QZ D vwCl A (kW K δ sr ρ dy) (if kF_isOf of k.1 = 0 then 0 else fCond φ (g 15)) g) := by
  generalize hf : (if kF_isOf of k.1 = 0 then 0 else fCond φ (g 15) : Int32) = z
  refine ct_intro (own := RX19) (lv0 := [(0, .ref a), (1, .int of), (2, .ref (K 15))]) (by decide) rfl (Nat.le_of_ble_eq_true rfl) rfl ?_
  intro p e s m args below meth c X hr
  obtain ⟨v, hm⟩ := h.cell
  refine tw_iload_n X dX19_isFor_0 rfl 1 rfl ?_
  refine tw_aload_n X dX19_isFor_1 rfl 0 rfl ?_
  refine tw_getD X hm in_X19 rfl 0 (by decide) q907 rfl rfl dX19_isFor_2 ?_
  refine tw_callSNz (As := [.int of, .int k.1]) (st := []) X (kC_isOf (g := g) of k.1) (va_cnB 2 X.hts (lw_meth q606) rfl rfl rfl (X.hN.1 _ nq604) (X.hts _ q116) dI_isOf ⟨Nat.le_of_ble_eq_true rfl, Nat.le_of_ble_eq_true rfl⟩) q605 ⟨Nat.zero_le _, Nat.zero_le _⟩ rfl rfl (Nat.le_of_ble_eq_true rfl) dX19_isFor_5 ?_
  intro hb
  refine tw_if_eq (tgt := 33) X dX19_isFor_8 rfl hf (fun q hf => ?_) (fun q hf => ?_)
  · refine tw_iconst (v := 0) X dX19_isFor_33 rfl ?_
    exact tw_zret X hr (Or.inl rfl) hf rfl dX19_isFor_34
  · refine tw_aload_n X dX19_isFor_11 rfl 0 rfl ?_
    rcases h with ⟨rfl, hm⟩ | ⟨ψ, b, rfl, hm, hR⟩
    · refine tw_getD X hm in_X19 rfl 3 (by decide) q910 rfl rfl dX19_isFor_12 ?_
      refine tw_ifnullN (tgt := 29) X dX19_isFor_15 rfl ?_
      refine tw_iconst (v := 1) X dX19_isFor_29 rfl ?_
      refine tw_goto (tgt := 34) X dX19_isFor_30 rfl ?_
      exact tw_zret X hr (Or.inr rfl) hf rfl dX19_isFor_34
    · refine tw_getD X hm in_X19 rfl 3 (by decide) q910 rfl rfl dX19_isFor_12 ?_
      refine tw_ifnull X dX19_isFor_15 ?_
      refine tw_aload_n X dX19_isFor_18 rfl 0 rfl ?_
      refine tw_getD X hm in_X19 rfl 3 (by decide) q910 rfl rfl dX19_isFor_19 ?_
      refine tw_aload_n X dX19_isFor_22 rfl 2 rfl ?_
      refine tw_hold (st := []) X q607 (kd_holds cDeep b ψ hR) ⟨Nat.le_of_ble_eq_true rfl, Nat.le_of_ble_eq_true rfl⟩ ⟨Nat.zero_le _, Nat.zero_le _⟩ (Nat.le_of_ble_eq_true rfl) dX19_isFor_23 ?_
      intro hz
      refine tw_if_eq (tgt := 33) (a := ()) (b := ()) (z := ()) X dX19_isFor_26 rfl (u_if _) (fun q _ => ?_) (fun q _ => ?_)
      · refine tw_iconst (v := 0) X dX19_isFor_33 rfl ?_
        exact tw_zret X hr (Or.inl rfl) (by rw [← hf]; exact q.symm) rfl dX19_isFor_34
      · refine tw_iconst (v := 1) X dX19_isFor_29 rfl ?_
        refine tw_goto (tgt := 34) X dX19_isFor_30 rfl ?_
        exact tw_zret X hr (Or.inr rfl) (by rw [← hf]; exact (hz.resolve_left q).symm) rfl dX19_isFor_34
theorem dI_isFor : yX19_isFor.cls = RX19 ∧ yX19_isFor.cls ≠ "java/lang/invoke/MethodHandle" ∧ yX19_isFor.cls ≠ "java/lang/invoke/VarHandle" ∧ (parseMethodDescriptor yX19_isFor.desc).map (fun d => d.parameters.length) = some 2 := by decide +kernel
theorem dG_isFor : GoodIn lw_all (wsV RX0 359 RX19 yX19_isFor (ws_ yX19_isFor cX19_isFor 3 (some .boolean))) := lw_V q600 q601 q602 q144 q603
theorem kd_isFor (X : Cx p c cc nL s args RX0 m meth D vwCl (kT δ) A) (hE : EOK δ ρ dy E) {i : Int32} {k : Nat} (hk : ixo (rn E) i = some k) {of : Int32} (hR : 222 + 1 ≤ R.frames ∧ 8 + (3 + 11) + 5120 ≤ R.locals) (hc : ce ≤ R.cells ∧ sl ≤ R.slots) (hW : (st.map fun v => v.category).sum ≤ 8) (hdg : decode cc pc = .ok (.invokevirtual 359, 3)) (kk : zb (fIsFor E k of (g 15)) → TW p l e R s m args below meth c Q D vwCl A (kW K δ sr ρ dy) nL ce sl g (pc + 3) lv (.int (fIsFor E k of (g 15)) :: st)) : TW p l e R s m args below meth c Q D vwCl A (kW K δ sr ρ dy) nL ce sl g pc lv (.ref (K 15) :: .int of :: .ref (rA E k) :: st) := by
  have hO := hE.2.2.1 k (ixo_in hk).2.2
  obtain ⟨v, hm⟩ := hO.cell
  obtain ⟨q0, he⟩ := kW_dy (K := K) (sr := sr) (ρ := ρ) (δ := δ) (g := g) hm
  exact tw_callVz (As := [.int of, .ref (K 15)]) (st := st) X (dC_isFor hO) dG_isFor dI_isFor hR hc q0 he rfl rfl rfl hW hdg kk
set_option maxHeartbeats 4000000 in
theorem dC_changes {a : Nat} {k : Int32 × Int32 × Int32} {v : Value} (hm : (a, (.inr (17, [.int k.1, .int k.2.1, .int k.2.2, v]) : va_E)) ∈ dy) {x : Int32} : Ct l yX19_changes cX19_changes 2 (some .int) 1 40 D vwCl (kT δ) A (kW K δ sr ρ dy) [.ref a, .int x] g (QI D vwCl A (kW K δ sr ρ dy) (if k.2.1 = 0 then x + k.2.2 else if k.2.1 = 1 then fMax0 (x - k.2.2) else 0) g) := by
  generalize hf : (if k.2.1 = 0 then x + k.2.2 else if k.2.1 = 1 then fMax0 (x - k.2.2) else 0 : Int32) = z
  refine ct_intro (own := RX19) (lv0 := [(0, .ref a), (1, .int x)]) (by decide) rfl (Nat.le_of_ble_eq_true rfl) rfl ?_
  intro p e s m args below meth c X hr
  refine tw_aload_n X dX19_changes_0 rfl 0 rfl ?_
  refine tw_getD X hm in_X19 rfl 1 (by decide) q908 rfl rfl dX19_changes_1 ?_
  refine tw_if_ne (tgt := 16) X dX19_changes_4 rfl hf (fun q hf => ?_) (fun q hf => ?_)
  · refine tw_iload_n X dX19_changes_7 rfl 1 rfl ?_
    refine tw_aload_n X dX19_changes_8 rfl 0 rfl ?_
    refine tw_getD X hm in_X19 rfl 2 (by decide) q909 rfl rfl dX19_changes_9 ?_
    refine tw_iadd X dX19_changes_12 ?_
    refine tw_goto (tgt := 38) X dX19_changes_13 rfl ?_
    exact tw_iret X hr hf rfl dX19_changes_38
  · refine tw_aload_n X dX19_changes_16 rfl 0 rfl ?_
    refine tw_getD X hm in_X19 rfl 1 (by decide) q908 rfl rfl dX19_changes_17 ?_
    refine tw_iconst (v := 1) X dX19_changes_20 rfl ?_
    refine tw_icmp_ne (tgt := 37) X dX19_changes_21 rfl hf (fun q hf => ?_) (fun q hf => ?_)
    · refine tw_iconst (v := 0) X dX19_changes_24 rfl ?_
      refine tw_iload_n X dX19_changes_25 rfl 1 rfl ?_
      refine tw_aload_n X dX19_changes_26 rfl 0 rfl ?_
      refine tw_getD X hm in_X19 rfl 2 (by decide) q909 rfl rfl dX19_changes_27 ?_
      refine tw_isub X dX19_changes_30 ?_
      refine tw_mmax X q633 ⟨Nat.le_of_ble_eq_true rfl, Nat.le_of_ble_eq_true rfl⟩ ⟨Nat.zero_le _, Nat.zero_le _⟩ (Nat.le_of_ble_eq_true rfl) dX19_changes_31 ?_
      refine tw_goto (tgt := 38) X dX19_changes_34 rfl ?_
      exact tw_iret X hr hf rfl dX19_changes_38
    · refine tw_iconst (v := 0) X dX19_changes_37 rfl ?_
      exact tw_iret X hr hf rfl dX19_changes_38
theorem dI_changes : yX19_changes.cls = RX19 ∧ yX19_changes.cls ≠ "java/lang/invoke/MethodHandle" ∧ yX19_changes.cls ≠ "java/lang/invoke/VarHandle" ∧ (parseMethodDescriptor yX19_changes.desc).map (fun d => d.parameters.length) = some 1 := by decide +kernel
theorem dG_changes : GoodIn lw_all (wsV RX0 363 RX19 yX19_changes (ws_ yX19_changes cX19_changes 2 (some .int))) := lw_V q629 q630 q631 q144 q632
theorem kd_changes (X : Cx p c cc nL s args RX0 m meth D vwCl (kT δ) A) (hE : EOK δ ρ dy E) {i : Int32} {k : Nat} (hk : ixo (rn E) i = some k) {x : Int32} (hR : 1 + 1 ≤ R.frames ∧ 8 + (2 + 11) + 40 ≤ R.locals) (hc : ce ≤ R.cells ∧ sl ≤ R.slots) (hW : (st.map fun v => v.category).sum ≤ 8) (hdg : decode cc pc = .ok (.invokevirtual 363, 3)) (kk : TW p l e R s m args below meth c Q D vwCl A (kW K δ sr ρ dy) nL ce sl g (pc + 3) lv (.int (fChanges E k x) :: st)) : TW p l e R s m args below meth c Q D vwCl A (kW K δ sr ρ dy) nL ce sl g pc lv (.int x :: .ref (rA E k) :: st) := by
  have hO := hE.2.2.1 k (ixo_in hk).2.2
  obtain ⟨v, hm⟩ := hO.cell
  obtain ⟨q0, he⟩ := kW_dy (K := K) (sr := sr) (ρ := ρ) (δ := δ) (g := g) hm
  exact tw_callVi (As := [.int x]) (st := st) X (dC_changes hm) dG_changes dI_changes hR hc q0 he rfl rfl rfl hW hdg kk
/-! asks, class by class -/
theorem dC_asks7 {b : Nat} {x y w : Int32} {fr lo : Nat} : Ct l yX7_asks cX7_asks 4 (some .int) fr lo D vwCl (kT δ) A (kW K δ sr ρ dy) [.ref b, .int x, .int y, .int w] g (QI D vwCl A (kW K δ sr ρ dy) x g) := by
  refine ct_intro (own := RX7) (lv0 := [(0, .ref b), (1, .int x), (2, .int y), (3, .int w)]) (by decide) rfl (Nat.le_of_ble_eq_true rfl) rfl ?_
  intro p e s m args below meth c X hr
  refine tw_iload_n X dX7_asks_0 rfl 1 rfl ?_
  exact tw_iret X hr rfl rfl dX7_asks_1
theorem dI_asks7 : yX7_asks.name ≠ "<init>" ∧ (parseMethodDescriptor yX7_asks.desc).map (fun d => d.parameters.length) = some 3 := by decide +kernel
theorem dI_asks9 : yX9_asks.name ≠ "<init>" ∧ (parseMethodDescriptor yX9_asks.desc).map (fun d => d.parameters.length) = some 3 := by decide +kernel
theorem dI_asks11 : yX11_asks.name ≠ "<init>" ∧ (parseMethodDescriptor yX11_asks.desc).map (fun d => d.parameters.length) = some 3 := by decide +kernel
theorem dv_10 (y : Int32) : ¬ (10 : Int32) = 0 := by decide
theorem dC_asks9 {b ci : Nat} {fs : List Value} {C : String} {T : u_T} {N : Nat} (hm : (b, (.inr (ci, fs) : va_E)) ∈ dy) (hcl : vwCl[ci]? = some (C, T, N)) {x y w : Int32} : Ct l yX9_asks cX9_asks 4 (some .int) 1 40 D vwCl (kT δ) A (kW K δ sr ρ dy) [.ref b, .int x, .int y, .int w] g (QI D vwCl A (kW K δ sr ρ dy) (fMax0 (x - y / 10)) g) := by
  refine ct_intro (own := RX9) (lv0 := [(0, .ref b), (1, .int x), (2, .int y), (3, .int w)]) (by decide) rfl (Nat.le_of_ble_eq_true rfl) rfl ?_
  intro p e s m args below meth c X hr
  obtain ⟨q0, he⟩ := kW_dy (K := K) (sr := sr) (ρ := ρ) (δ := δ) (g := g) hm
  refine tw_iconst (v := 0) X dX9_asks_0 rfl ?_
  refine tw_aload_n X dX9_asks_1 rfl 0 rfl ?_
  refine tw_iload_n X dX9_asks_2 rfl 1 rfl ?_
  refine tw_iload_n X dX9_asks_3 rfl 2 rfl ?_
  refine tw_iload_n X dX9_asks_4 rfl 3 rfl ?_
  refine tw_callSUi (As := [.int x, .int y, .int w]) (st := [.int 0]) X (dC_asks7 (fr := 0) (lo := 0)) (va_cwSU 3 X.hts (lw_SU q649 q636 q539 q635 q126 q656) rfl rfl rfl dI_asks7 ⟨Nat.le_of_ble_eq_true rfl, Nat.le_of_ble_eq_true rfl⟩) ⟨Nat.zero_le _, Nat.zero_le _⟩ q0 he hcl rfl rfl (Nat.le_of_ble_eq_true rfl) dX9_asks_5 ?_
  refine tw_iload_n X dX9_asks_8 rfl 2 rfl ?_
  refine tw_bipush (v := 10) X dX9_asks_9 rfl ?_
  refine tw_idiv X dX9_asks_11 (by decide) ?_
  refine tw_isub X dX9_asks_12 ?_
  refine tw_mmax X q650 ⟨Nat.le_of_ble_eq_true rfl, Nat.le_of_ble_eq_true rfl⟩ ⟨Nat.zero_le _, Nat.zero_le _⟩ (Nat.le_of_ble_eq_true rfl) dX9_asks_13 ?_
  exact tw_iret X hr rfl rfl dX9_asks_16
theorem dC_asks11 {b ci : Nat} {fs : List Value} {C : String} {T : u_T} {N : Nat} (hm : (b, (.inr (ci, fs) : va_E)) ∈ dy) (hcl : vwCl[ci]? = some (C, T, N)) {x y w : Int32} : Ct l yX11_asks cX11_asks 4 (some .int) 1 40 D vwCl (kT δ) A (kW K δ sr ρ dy) [.ref b, .int x, .int y, .int w] g (QI D vwCl A (kW K δ sr ρ dy) (2 * x) g) := by
  refine ct_intro (own := RX11) (lv0 := [(0, .ref b), (1, .int x), (2, .int y), (3, .int w)]) (by decide) rfl (Nat.le_of_ble_eq_true rfl) rfl ?_
  intro p e s m args below meth c X hr
  obtain ⟨q0, he⟩ := kW_dy (K := K) (sr := sr) (ρ := ρ) (δ := δ) (g := g) hm
  refine tw_iconst (v := 2) X dX11_asks_0 rfl ?_
  refine tw_aload_n X dX11_asks_1 rfl 0 rfl ?_
  refine tw_iload_n X dX11_asks_2 rfl 1 rfl ?_
  refine tw_iload_n X dX11_asks_3 rfl 2 rfl ?_
  refine tw_iload_n X dX11_asks_4 rfl 3 rfl ?_
  refine tw_callSUi (As := [.int x, .int y, .int w]) (st := [.int 2]) X (dC_asks7 (fr := 0) (lo := 0)) (va_cwSU 3 X.hts (lw_SU q643 q636 q557 q635 q126 q656) rfl rfl rfl dI_asks7 ⟨Nat.le_of_ble_eq_true rfl, Nat.le_of_ble_eq_true rfl⟩) ⟨Nat.zero_le _, Nat.zero_le _⟩ q0 he hcl rfl rfl (Nat.le_of_ble_eq_true rfl) dX11_asks_5 ?_
  refine tw_imul X dX11_asks_8 ?_
  exact tw_iret X hr rfl rfl dX11_asks_9
set_option maxHeartbeats 4000000 in
theorem dC_asks10 {b ci : Nat} {fs : List Value} {C : String} {T : u_T} {N : Nat} (hm : (b, (.inr (ci, fs) : va_E)) ∈ dy) (hcl : vwCl[ci]? = some (C, T, N)) {x y w : Int32} : Ct l yX10_asks cX10_asks 4 (some .int) 2 63 D vwCl (kT δ) A (kW K δ sr ρ dy) [.ref b, .int x, .int y, .int w] g (QI D vwCl A (kW K δ sr ρ dy) (if w = 0 then fMax0 (x - y / 10) / 2 else fMax0 (x - y / 10)) g) := by
  generalize hf : (if w = 0 then fMax0 (x - y / 10) / 2 else fMax0 (x - y / 10) : Int32) = z
  refine ct_intro (own := RX10) (lv0 := [(0, .ref b), (1, .int x), (2, .int y), (3, .int w)]) (by decide) rfl (Nat.le_of_ble_eq_true rfl) rfl ?_
  intro p e s m args below meth c X hr
  obtain ⟨q0, he⟩ := kW_dy (K := K) (sr := sr) (ρ := ρ) (δ := δ) (g := g) hm
  refine tw_iload_n X dX10_asks_0 rfl 3 rfl ?_
  refine tw_if_ne (tgt := 16) X dX10_asks_1 rfl hf (fun q hf => ?_) (fun q hf => ?_)
  · refine tw_aload_n X dX10_asks_4 rfl 0 rfl ?_
    refine tw_iload_n X dX10_asks_5 rfl 1 rfl ?_
    refine tw_iload_n X dX10_asks_6 rfl 2 rfl ?_
    refine tw_iload_n X dX10_asks_7 rfl 3 rfl ?_
    refine tw_callSUi (As := [.int x, .int y, .int w]) (st := []) X (dC_asks9 hm hcl) (va_cwSU 3 X.hts (lw_SU q655 q2211 q548 q647 q128 q648) rfl rfl rfl dI_asks9 ⟨Nat.le_of_ble_eq_true rfl, Nat.le_of_ble_eq_true rfl⟩) ⟨Nat.zero_le _, Nat.zero_le _⟩ q0 he hcl rfl rfl (Nat.le_of_ble_eq_true rfl) dX10_asks_8 ?_
    refine tw_iconst (v := 2) X dX10_asks_11 rfl ?_
    refine tw_idiv X dX10_asks_12 (by decide) ?_
    refine tw_goto (tgt := 23) X dX10_asks_13 rfl ?_
    exact tw_iret X hr hf rfl dX10_asks_23
  · refine tw_aload_n X dX10_asks_16 rfl 0 rfl ?_
    refine tw_iload_n X dX10_asks_17 rfl 1 rfl ?_
    refine tw_iload_n X dX10_asks_18 rfl 2 rfl ?_
    refine tw_iload_n X dX10_asks_19 rfl 3 rfl ?_
    refine tw_callSUi (As := [.int x, .int y, .int w]) (st := []) X (dC_asks9 hm hcl) (va_cwSU 3 X.hts (lw_SU q655 q2211 q548 q647 q128 q648) rfl rfl rfl dI_asks9 ⟨Nat.le_of_ble_eq_true rfl, Nat.le_of_ble_eq_true rfl⟩) ⟨Nat.zero_le _, Nat.zero_le _⟩ q0 he hcl rfl rfl (Nat.le_of_ble_eq_true rfl) dX10_asks_20 ?_
    exact tw_iret X hr hf rfl dX10_asks_23
theorem dC_asks12 {b ci : Nat} {fs : List Value} {C : String} {T : u_T} {N : Nat} (hm : (b, (.inr (ci, fs) : va_E)) ∈ dy) (hcl : vwCl[ci]? = some (C, T, N)) {x y w : Int32} : Ct l yX12_asks cX12_asks 4 (some .int) 2 63 D vwCl (kT δ) A (kW K δ sr ρ dy) [.ref b, .int x, .int y, .int w] g (QI D vwCl A (kW K δ sr ρ dy) (fMax0 (2 * x - 7)) g) := by
  refine ct_intro (own := RX12) (lv0 := [(0, .ref b), (1, .int x), (2, .int y), (3, .int w)]) (by decide) rfl (Nat.le_of_ble_eq_true rfl) rfl ?_
  intro p e s m args below meth c X hr
  obtain ⟨q0, he⟩ := kW_dy (K := K) (sr := sr) (ρ := ρ) (δ := δ) (g := g) hm
  refine tw_iconst (v := 0) X dX12_asks_0 rfl ?_
  refine tw_aload_n X dX12_asks_1 rfl 0 rfl ?_
  refine tw_iload_n X dX12_asks_2 rfl 1 rfl ?_
  refine tw_iload_n X dX12_asks_3 rfl 2 rfl ?_
  refine tw_iload_n X dX12_asks_4 rfl 3 rfl ?_
  refine tw_callSUi (As := [.int x, .int y, .int w]) (st := [.int 0]) X (dC_asks11 hm hcl) (va_cwSU 3 X.hts (lw_SU q640 q2210 q566 q641 q130 q642) rfl rfl rfl dI_asks11 ⟨Nat.le_of_ble_eq_true rfl, Nat.le_of_ble_eq_true rfl⟩) ⟨Nat.zero_le _, Nat.zero_le _⟩ q0 he hcl rfl rfl (Nat.le_of_ble_eq_true rfl) dX12_asks_5 ?_
  refine tw_bipush (v := 7) X dX12_asks_8 rfl ?_
  refine tw_isub X dX12_asks_10 ?_
  refine tw_mmax X q644 ⟨Nat.le_of_ble_eq_true rfl, Nat.le_of_ble_eq_true rfl⟩ ⟨Nat.zero_le _, Nat.zero_le _⟩ (Nat.le_of_ble_eq_true rfl) dX12_asks_11 ?_
  exact tw_iret X hr rfl rfl dX12_asks_14
abbrev xAsks : MethodName := ⟨"HadForVoice$Person", "asks", "(III)I"⟩
theorem xA_d : "HadForVoice$Person" ≠ "java/lang/invoke/MethodHandle" ∧ "HadForVoice$Person" ≠ "java/lang/invoke/VarHandle" ∧ (parseMethodDescriptor xAsks.desc).map (fun d => d.parameters.length) = some 3 := by decide +kernel
set_option maxHeartbeats 4000000 in
theorem kd_asks (X : Cx p c cc nL s args RX0 m meth D vwCl (kT δ) A) (hE : EOK δ ρ dy E) {i : Int32} {k : Nat} (hk : ppo E i = some k) {x y w : Int32} (hR : 3 + 1 ≤ R.frames ∧ 8 + (4 + 11) + 70 ≤ R.locals) (hc : ce ≤ R.cells ∧ sl ≤ R.slots) (hW : (st.map fun v => v.category).sum ≤ 8) (hdg : decode cc pc = .ok (.invokevirtual 366, 3)) (kk : TW p l e R s m args below meth c Q D vwCl A (kW K δ sr ρ dy) nL ce sl g (pc + 3) lv (.int (fAsks (pk E k) x y w) :: st)) : TW p l e R s m args below meth c Q D vwCl A (kW K δ sr ρ dy) nL ce sl g pc lv (.int w :: .int y :: .int x :: .ref (pA E k) :: st) := by
  obtain ⟨-, -, h3, h4⟩ := ppo_in hk
  rcases hE.2.2.2 k h3 with h5 | ⟨h5, -, u, v, hm⟩
  · exact absurd h5 h4
  · obtain ⟨q0, he⟩ := kW_dy (K := K) (sr := sr) (ρ := ρ) (δ := δ) (g := g) hm
    generalize hkd : pk E k = kd at h4 h5 hm he kk
    generalize pA E k = b at hm he ⊢
    match kd, h4, h5 with
    | 1, _, _ => exact tw_callUi (As := [.int x, .int y, .int w]) (st := st) X (dC_asks7 (fr := 0) (lo := 0)) (va_cwU 3 X.hts (lw_U q634 q636 q645 q635 q126 q656) rfl rfl rfl rfl xA_d ⟨by show 0 + 1 ≤ _; omega, by show 8 + (4 + 11) + 0 ≤ _; omega⟩) hc q0 he rfl rfl rfl hW hdg kk
    | 2, _, _ => exact tw_callUi (As := [.int x, .int y, .int w]) (st := st) X (dC_asks9 hm rfl) (va_cwO 3 X.hts (lw_O q634 q636 q635 q646 q647 q128 q648) rfl rfl rfl q656 xA_d ⟨by show 1 + 1 ≤ _; omega, by show 8 + (4 + 11) + 40 ≤ _; omega⟩) hc q0 he rfl rfl rfl hW hdg kk
    | 3, _, _ => exact tw_callUi (As := [.int x, .int y, .int w]) (st := st) X (dC_asks10 hm rfl) (va_cwO 3 X.hts (lw_O q634 q636 q635 q652 q653 q129 q654) rfl rfl rfl q656 xA_d ⟨by show 2 + 1 ≤ _; omega, by show 8 + (4 + 11) + 63 ≤ _; omega⟩) hc q0 he rfl rfl rfl hW hdg kk
    | 4, _, _ => exact tw_callUi (As := [.int x, .int y, .int w]) (st := st) X (dC_asks11 hm rfl) (va_cwO 3 X.hts (lw_O q634 q636 q635 q651 q641 q130 q642) rfl rfl rfl q656 xA_d ⟨by show 1 + 1 ≤ _; omega, by show 8 + (4 + 11) + 40 ≤ _; omega⟩) hc q0 he rfl rfl rfl hW hdg kk
    | 5, _, _ => exact tw_callUi (As := [.int x, .int y, .int w]) (st := st) X (dC_asks12 hm rfl) (va_cwO 3 X.hts (lw_O q634 q636 q635 q637 q638 q131 q639) rfl rfl rfl q656 xA_d ⟨by show 2 + 1 ≤ _; omega, by show 8 + (4 + 11) + 63 ≤ _; omega⟩) hc q0 he rfl rfl rfl hW hdg kk
end KD3
