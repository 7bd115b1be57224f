/-! THE COMPONENT's METHODS that renew a person (printed by gen/mk_comp2.py) -/
set_option maxRecDepth 100000
section KWN2
variable {p : Program} {l : Launch} {e : Env} {R : Room} {s : State} {m : MethodId} {args : Array Value} {below : List Frame} {meth : Method} {c : Code} {Q : State → Prop} {D : va_G} {A : Nat → Prop} {nL ce sl : Nat} {g g' : St} {pc : Nat} {lv : List (Nat × Value)} {st : List Value} {cc : ByteArray} {K : Nat → Nat} {δ : Nat → ClassId} {sr ρ : Rf} {dy : va_W}
theorem ksX0_45 (X : Cx p c cc nL s args RX0 m meth D vwCl (kT δ) A) {i x : Int32} (hg : wr g 45 6 i x = some g') (hdg : decode cc pc = .ok (.iastore, 1)) (kk : TW p l e R s m args below meth c Q D vwCl A (kW K δ sr ρ dy) nL ce sl g' (pc + 1) lv st) : TW p l e R s m args below meth c Q D vwCl A (kW K δ sr ρ dy) nL ce sl g pc lv (.int x :: .int i :: .ref (K 45) :: st) := by
  obtain ⟨h1, rfl⟩ := wr_in hg
  exact tw_iast X 6 0 rfl rfl h1 rfl hdg kk
theorem ksX0_46 (X : Cx p c cc nL s args RX0 m meth D vwCl (kT δ) A) {i x : Int32} (hg : wr g 46 6 i x = some g') (hdg : decode cc pc = .ok (.iastore, 1)) (kk : TW p l e R s m args below meth c Q D vwCl A (kW K δ sr ρ dy) nL ce sl g' (pc + 1) lv st) : TW p l e R s m args below meth c Q D vwCl A (kW K δ sr ρ dy) nL ce sl g pc lv (.int x :: .int i :: .ref (K 46) :: st) := by
  obtain ⟨h1, rfl⟩ := wr_in hg
  exact tw_iast X 7 0 rfl rfl h1 rfl hdg kk
theorem ksX0_47 (X : Cx p c cc nL s args RX0 m meth D vwCl (kT δ) A) {i x : Int32} (hg : wr g 47 6 i x = some g') (hdg : decode cc pc = .ok (.iastore, 1)) (kk : TW p l e R s m args below meth c Q D vwCl A (kW K δ sr ρ dy) nL ce sl g' (pc + 1) lv st) : TW p l e R s m args below meth c Q D vwCl A (kW K δ sr ρ dy) nL ce sl g pc lv (.int x :: .int i :: .ref (K 47) :: st) := by
  obtain ⟨h1, rfl⟩ := wr_in hg
  exact tw_iast X 8 0 rfl rfl h1 rfl hdg kk
theorem ksX0_48 (X : Cx p c cc nL s args RX0 m meth D vwCl (kT δ) A) {i x : Int32} (hg : wr g 48 6 i x = some g') (hdg : decode cc pc = .ok (.iastore, 1)) (kk : TW p l e R s m args below meth c Q D vwCl A (kW K δ sr ρ dy) nL ce sl g' (pc + 1) lv st) : TW p l e R s m args below meth c Q D vwCl A (kW K δ sr ρ dy) nL ce sl g pc lv (.int x :: .int i :: .ref (K 48) :: st) := by
  obtain ⟨h1, rfl⟩ := wr_in hg
  exact tw_iast X 9 0 rfl rfl h1 rfl hdg kk
theorem kpX0_147_3 (X : Cx p c cc nL s args RX0 m meth D vwCl (kT δ) A) {v : Int32} (hg : pf g 40 0 v = some g') (hdg : decode cc pc = .ok (.putfield 147, 3)) (kk : TW p l e R s m args below meth c Q D vwCl A (kW K δ sr ρ dy) nL ce sl g' (pc + 3) lv st) : TW p l e R s m args below meth c Q D vwCl A (kW K δ sr ρ dy) nL ce sl g pc lv (.int v :: .ref (K 3) :: st) := by
  cases hg
  exact tw_put X in_X3 tyX3 tyX3_ok nmX3 3 rfl rfl 0 (by decide) q273 rfl rfl (ty := .int) rfl rfl rfl (Nat.le_of_ble_eq_true rfl) hdg rfl kk
theorem kgX0_601_0 (X : Cx p c cc nL s args RX0 m meth D vwCl (kT δ) A) (hdg : decode cc pc = .ok (.getfield 601, 3)) (kk : TW p l e R s m args below meth c Q D vwCl A (kW K δ sr ρ dy) nL ce sl g (pc + 3) lv (.int (g 0 6) :: st)) : TW p l e R s m args below meth c Q D vwCl A (kW K δ sr ρ dy) nL ce sl g pc lv (.ref (K 0) :: st) := tw_get X in_X0 0 rfl rfl 6 (by decide) q401 rfl rfl hdg kk
theorem kgX3_61_4 (X : Cx p c cc nL s args RX3 m meth D vwCl (kT δ) A) (hdg : decode cc pc = .ok (.getfield 61, 3)) (kk : TW p l e R s m args below meth c Q D vwCl A (kW K δ sr ρ dy) nL ce sl g (pc + 3) lv (.int (g 60 0) :: st)) : TW p l e R s m args below meth c Q D vwCl A (kW K δ sr ρ dy) nL ce sl g pc lv (.ref (K 4) :: st) := tw_get X in_X3 4 rfl rfl 0 (by decide) q272 rfl rfl hdg kk
theorem kgX3_64_4 (X : Cx p c cc nL s args RX3 m meth D vwCl (kT δ) A) (hdg : decode cc pc = .ok (.getfield 64, 3)) (kk : TW p l e R s m args below meth c Q D vwCl A (kW K δ sr ρ dy) nL ce sl g (pc + 3) lv (.int (g 60 1) :: st)) : TW p l e R s m args below meth c Q D vwCl A (kW K δ sr ρ dy) nL ce sl g pc lv (.ref (K 4) :: st) := tw_get X in_X3 4 rfl rfl 1 (by decide) q274 rfl rfl hdg kk
theorem kgX3_67_4 (X : Cx p c cc nL s args RX3 m meth D vwCl (kT δ) A) (hdg : decode cc pc = .ok (.getfield 67, 3)) (kk : TW p l e R s m args below meth c Q D vwCl A (kW K δ sr ρ dy) nL ce sl g (pc + 3) lv (.int (g 60 2) :: st)) : TW p l e R s m args below meth c Q D vwCl A (kW K δ sr ρ dy) nL ce sl g pc lv (.ref (K 4) :: st) := tw_get X in_X3 4 rfl rfl 2 (by decide) q276 rfl rfl hdg kk
theorem kgX3_70_4 (X : Cx p c cc nL s args RX3 m meth D vwCl (kT δ) A) (hdg : decode cc pc = .ok (.getfield 70, 3)) (kk : TW p l e R s m args below meth c Q D vwCl A (kW K δ sr ρ dy) nL ce sl g (pc + 3) lv (.int (g 60 3) :: st)) : TW p l e R s m args below meth c Q D vwCl A (kW K δ sr ρ dy) nL ce sl g pc lv (.ref (K 4) :: st) := tw_get X in_X3 4 rfl rfl 3 (by decide) q278 rfl rfl hdg kk
theorem kgX3_9_4 (X : Cx p c cc nL s args RX3 m meth D vwCl (kT δ) A) (hdg : decode cc pc = .ok (.getfield 9, 3)) (kk : TW p l e R s m args below meth c Q D vwCl A (kW K δ sr ρ dy) nL ce sl g (pc + 3) lv (.int (g 60 4) :: st)) : TW p l e R s m args below meth c Q D vwCl A (kW K δ sr ρ dy) nL ce sl g pc lv (.ref (K 4) :: st) := tw_get X in_X3 4 rfl rfl 4 (by decide) q280 rfl rfl hdg kk
theorem kgq_1 (X : Cx p c cc nL s args RX3 m meth D vwCl (kT δ) A) (hdg : decode cc pc = .ok (.getfield 57, 3)) (kk : TW p l e R s m args below meth c Q D vwCl A (kW K δ sr ρ dy) nL ce sl g (pc + 3) lv (va_rf (ρ 0 1) :: st)) : TW p l e R s m args below meth c Q D vwCl A (kW K δ sr ρ dy) nL ce sl g pc lv (.ref (K 4) :: st) := tw_get X in_X3 4 rfl rfl 18 (by decide) q308 rfl rfl hdg kk
theorem kpq_0_1 (X : Cx p c cc nL s args RX3 m meth D vwCl (kT δ) A) (hdg : decode cc pc = .ok (.putfield 57, 3)) (kk : TW p l e R s m args below meth c Q D vwCl A (kW K δ sr (upR ρ 0 0 (ρ 0 1)) dy) nL ce sl g (pc + 3) lv st) : TW p l e R s m args below meth c Q D vwCl A (kW K δ sr ρ dy) nL ce sl g pc lv (va_rf (ρ 0 1) :: .ref (K 3) :: st) :=
  fun H locs ls hl hP hD hS => va_put X.hx X.hb X.hts in_X3 tyX3 tyX3_ok nmX3 X.hown X.hK hP hD hS 3 rfl rfl 18 (by decide) (X.hts _ q308) (fun _ h => h) rfl (ty := .array (.object "HadForVoice$Rule")) rfl rfl (rf_fit _ _) (Nat.le_of_ble_eq_true rfl) hdg (fun H1 locs1 hP1 hD1 hS1 => kk H1 locs1 ls hl hP1 hD1 hS1)
theorem kcX3_65_45 (X : Cx p c cc nL s args RX3 m meth D vwCl (kT δ) A) {sp dp n : Int32} (hg : cpy g 65 6 45 6 sp dp n = some g') (hR : 1 ≤ R.frames ∧ 40 ≤ R.locals) (hW : (st.map fun v => v.category).sum ≤ 8) (hdg : decode cc pc = .ok (.invokestatic 73, 3)) (kk : TW p l e R s m args below meth c Q D vwCl A (kW K δ sr ρ dy) nL ce sl g' (pc + 3) lv st) : TW p l e R s m args below meth c Q D vwCl A (kW K δ sr ρ dy) nL ce sl g pc lv (.int n :: .int dp :: .ref (K 45) :: .int sp :: .ref (K 65) :: st) := by
  obtain ⟨h1, rfl⟩ := cpy_in hg
  exact tw_copyi X q971 q922 q921 q145 19 6 0 rfl rfl rfl h1 rfl hR hW hdg kk
theorem kcX3_66_46 (X : Cx p c cc nL s args RX3 m meth D vwCl (kT δ) A) {sp dp n : Int32} (hg : cpy g 66 6 46 6 sp dp n = some g') (hR : 1 ≤ R.frames ∧ 40 ≤ R.locals) (hW : (st.map fun v => v.category).sum ≤ 8) (hdg : decode cc pc = .ok (.invokestatic 73, 3)) (kk : TW p l e R s m args below meth c Q D vwCl A (kW K δ sr ρ dy) nL ce sl g' (pc + 3) lv st) : TW p l e R s m args below meth c Q D vwCl A (kW K δ sr ρ dy) nL ce sl g pc lv (.int n :: .int dp :: .ref (K 46) :: .int sp :: .ref (K 66) :: st) := by
  obtain ⟨h1, rfl⟩ := cpy_in hg
  exact tw_copyi X q971 q922 q921 q145 20 7 0 rfl rfl rfl h1 rfl hR hW hdg kk
theorem kcX3_67_47 (X : Cx p c cc nL s args RX3 m meth D vwCl (kT δ) A) {sp dp n : Int32} (hg : cpy g 67 6 47 6 sp dp n = some g') (hR : 1 ≤ R.frames ∧ 40 ≤ R.locals) (hW : (st.map fun v => v.category).sum ≤ 8) (hdg : decode cc pc = .ok (.invokestatic 73, 3)) (kk : TW p l e R s m args below meth c Q D vwCl A (kW K δ sr ρ dy) nL ce sl g' (pc + 3) lv st) : TW p l e R s m args below meth c Q D vwCl A (kW K δ sr ρ dy) nL ce sl g pc lv (.int n :: .int dp :: .ref (K 47) :: .int sp :: .ref (K 67) :: st) := by
  obtain ⟨h1, rfl⟩ := cpy_in hg
  exact tw_copyi X q971 q922 q921 q145 21 8 0 rfl rfl rfl h1 rfl hR hW hdg kk
theorem kcX3_68_48 (X : Cx p c cc nL s args RX3 m meth D vwCl (kT δ) A) {sp dp n : Int32} (hg : cpy g 68 6 48 6 sp dp n = some g') (hR : 1 ≤ R.frames ∧ 40 ≤ R.locals) (hW : (st.map fun v => v.category).sum ≤ 8) (hdg : decode cc pc = .ok (.invokestatic 73, 3)) (kk : TW p l e R s m args below meth c Q D vwCl A (kW K δ sr ρ dy) nL ce sl g' (pc + 3) lv st) : TW p l e R s m args below meth c Q D vwCl A (kW K δ sr ρ dy) nL ce sl g pc lv (.int n :: .int dp :: .ref (K 48) :: .int sp :: .ref (K 68) :: st) := by
  obtain ⟨h1, rfl⟩ := cpy_in hg
  exact tw_copyi X q971 q922 q921 q145 22 9 0 rfl rfl rfl h1 rfl hR hW hdg kk
theorem kcX3_69_49 (X : Cx p c cc nL s args RX3 m meth D vwCl (kT δ) A) {sp dp n : Int32} (hg : cpy g 69 6 49 6 sp dp n = some g') (hR : 1 ≤ R.frames ∧ 40 ≤ R.locals) (hW : (st.map fun v => v.category).sum ≤ 8) (hdg : decode cc pc = .ok (.invokestatic 73, 3)) (kk : TW p l e R s m args below meth c Q D vwCl A (kW K δ sr ρ dy) nL ce sl g' (pc + 3) lv st) : TW p l e R s m args below meth c Q D vwCl A (kW K δ sr ρ dy) nL ce sl g pc lv (.int n :: .int dp :: .ref (K 49) :: .int sp :: .ref (K 69) :: st) := by
  obtain ⟨h1, rfl⟩ := cpy_in hg
  exact tw_copyi X q971 q922 q921 q145 23 10 0 rfl rfl rfl h1 rfl hR hW hdg kk
theorem kcX3_70_50 (X : Cx p c cc nL s args RX3 m meth D vwCl (kT δ) A) {sp dp n : Int32} (hg : cpy g 70 8 50 8 sp dp n = some g') (hR : 1 ≤ R.frames ∧ 40 ≤ R.locals) (hW : (st.map fun v => v.category).sum ≤ 8) (hdg : decode cc pc = .ok (.invokestatic 73, 3)) (kk : TW p l e R s m args below meth c Q D vwCl A (kW K δ sr ρ dy) nL ce sl g' (pc + 3) lv st) : TW p l e R s m args below meth c Q D vwCl A (kW K δ sr ρ dy) nL ce sl g pc lv (.int n :: .int dp :: .ref (K 50) :: .int sp :: .ref (K 70) :: st) := by
  obtain ⟨h1, rfl⟩ := cpy_in hg
  exact tw_copyi X q971 q922 q921 q145 24 11 0 rfl rfl rfl h1 rfl hR hW hdg kk
theorem kcX3_71_51 (X : Cx p c cc nL s args RX3 m meth D vwCl (kT δ) A) {sp dp n : Int32} (hg : cpy g 71 8 51 8 sp dp n = some g') (hR : 1 ≤ R.frames ∧ 40 ≤ R.locals) (hW : (st.map fun v => v.category).sum ≤ 8) (hdg : decode cc pc = .ok (.invokestatic 73, 3)) (kk : TW p l e R s m args below meth c Q D vwCl A (kW K δ sr ρ dy) nL ce sl g' (pc + 3) lv st) : TW p l e R s m args below meth c Q D vwCl A (kW K δ sr ρ dy) nL ce sl g pc lv (.int n :: .int dp :: .ref (K 51) :: .int sp :: .ref (K 71) :: st) := by
  obtain ⟨h1, rfl⟩ := cpy_in hg
  exact tw_copyi X q971 q922 q921 q145 25 12 0 rfl rfl rfl h1 rfl hR hW hdg kk
theorem kcX3_72_52 (X : Cx p c cc nL s args RX3 m meth D vwCl (kT δ) A) {sp dp n : Int32} (hg : cpy g 72 6 52 6 sp dp n = some g') (hR : 1 ≤ R.frames ∧ 40 ≤ R.locals) (hW : (st.map fun v => v.category).sum ≤ 8) (hdg : decode cc pc = .ok (.invokestatic 73, 3)) (kk : TW p l e R s m args below meth c Q D vwCl A (kW K δ sr ρ dy) nL ce sl g' (pc + 3) lv st) : TW p l e R s m args below meth c Q D vwCl A (kW K δ sr ρ dy) nL ce sl g pc lv (.int n :: .int dp :: .ref (K 52) :: .int sp :: .ref (K 72) :: st) := by
  obtain ⟨h1, rfl⟩ := cpy_in hg
  exact tw_copyi X q971 q922 q921 q145 26 13 0 rfl rfl rfl h1 rfl hR hW hdg kk
theorem kcX3_73_53 (X : Cx p c cc nL s args RX3 m meth D vwCl (kT δ) A) {sp dp n : Int32} (hg : cpy g 73 6 53 6 sp dp n = some g') (hR : 1 ≤ R.frames ∧ 40 ≤ R.locals) (hW : (st.map fun v => v.category).sum ≤ 8) (hdg : decode cc pc = .ok (.invokestatic 73, 3)) (kk : TW p l e R s m args below meth c Q D vwCl A (kW K δ sr ρ dy) nL ce sl g' (pc + 3) lv st) : TW p l e R s m args below meth c Q D vwCl A (kW K δ sr ρ dy) nL ce sl g pc lv (.int n :: .int dp :: .ref (K 53) :: .int sp :: .ref (K 73) :: st) := by
  obtain ⟨h1, rfl⟩ := cpy_in hg
  exact tw_copyi X q971 q922 q921 q145 27 14 0 rfl rfl rfl h1 rfl hR hW hdg kk
theorem kcX3_74_54 (X : Cx p c cc nL s args RX3 m meth D vwCl (kT δ) A) {sp dp n : Int32} (hg : cpy g 74 6 54 6 sp dp n = some g') (hR : 1 ≤ R.frames ∧ 40 ≤ R.locals) (hW : (st.map fun v => v.category).sum ≤ 8) (hdg : decode cc pc = .ok (.invokestatic 73, 3)) (kk : TW p l e R s m args below meth c Q D vwCl A (kW K δ sr ρ dy) nL ce sl g' (pc + 3) lv st) : TW p l e R s m args below meth c Q D vwCl A (kW K δ sr ρ dy) nL ce sl g pc lv (.int n :: .int dp :: .ref (K 54) :: .int sp :: .ref (K 74) :: st) := by
  obtain ⟨h1, rfl⟩ := cpy_in hg
  exact tw_copyi X q971 q922 q921 q145 28 15 0 rfl rfl rfl h1 rfl hR hW hdg kk
theorem kcX3_75_55 (X : Cx p c cc nL s args RX3 m meth D vwCl (kT δ) A) {sp dp n : Int32} (hg : cpy g 75 12 55 12 sp dp n = some g') (hR : 1 ≤ R.frames ∧ 40 ≤ R.locals) (hW : (st.map fun v => v.category).sum ≤ 8) (hdg : decode cc pc = .ok (.invokestatic 73, 3)) (kk : TW p l e R s m args below meth c Q D vwCl A (kW K δ sr ρ dy) nL ce sl g' (pc + 3) lv st) : TW p l e R s m args below meth c Q D vwCl A (kW K δ sr ρ dy) nL ce sl g pc lv (.int n :: .int dp :: .ref (K 55) :: .int sp :: .ref (K 75) :: st) := by
  obtain ⟨h1, rfl⟩ := cpy_in hg
  exact tw_copyi X q971 q922 q921 q145 29 16 0 rfl rfl rfl h1 rfl hR hW hdg kk
theorem kcX3_76_56 (X : Cx p c cc nL s args RX3 m meth D vwCl (kT δ) A) {sp dp n : Int32} (hg : cpy g 76 12 56 12 sp dp n = some g') (hR : 1 ≤ R.frames ∧ 40 ≤ R.locals) (hW : (st.map fun v => v.category).sum ≤ 8) (hdg : decode cc pc = .ok (.invokestatic 73, 3)) (kk : TW p l e R s m args below meth c Q D vwCl A (kW K δ sr ρ dy) nL ce sl g' (pc + 3) lv st) : TW p l e R s m args below meth c Q D vwCl A (kW K δ sr ρ dy) nL ce sl g pc lv (.int n :: .int dp :: .ref (K 56) :: .int sp :: .ref (K 76) :: st) := by
  obtain ⟨h1, rfl⟩ := cpy_in hg
  exact tw_copyi X q971 q922 q921 q145 30 17 0 rfl rfl rfl h1 rfl hR hW hdg kk
theorem kcX3_77_57 (X : Cx p c cc nL s args RX3 m meth D vwCl (kT δ) A) {sp dp n : Int32} (hg : cpy g 77 12 57 12 sp dp n = some g') (hR : 1 ≤ R.frames ∧ 40 ≤ R.locals) (hW : (st.map fun v => v.category).sum ≤ 8) (hdg : decode cc pc = .ok (.invokestatic 73, 3)) (kk : TW p l e R s m args below meth c Q D vwCl A (kW K δ sr ρ dy) nL ce sl g' (pc + 3) lv st) : TW p l e R s m args below meth c Q D vwCl A (kW K δ sr ρ dy) nL ce sl g pc lv (.int n :: .int dp :: .ref (K 57) :: .int sp :: .ref (K 77) :: st) := by
  obtain ⟨h1, rfl⟩ := cpy_in hg
  exact tw_copyi X q971 q922 q921 q145 31 18 0 rfl rfl rfl h1 rfl hR hW hdg kk
end KWN2
theorem kGX0_167 : GoodIn lw_all (va_wsS RX0 167 yX0_isKind (ws_ yX0_isKind cX0_isKind 1 (some .boolean))) := lw_S q496 q497 q116 q498
theorem kI_X0_isKind : yX0_isKind.cls ≠ "java/lang/invoke/MethodHandle" ∧ yX0_isKind.cls ≠ "java/lang/invoke/VarHandle" ∧ (parseMethodDescriptor yX0_isKind.desc).map (fun d => d.parameters.length) = some 1 := by decide +kernel
theorem kGX0_170 : GoodIn lw_all (va_wsS RX0 170 yX0_isTold (ws_ yX0_isTold cX0_isTold 2 (some .boolean))) := lw_S q502 q503 q116 q504
theorem kI_X0_isTold : yX0_isTold.cls ≠ "java/lang/invoke/MethodHandle" ∧ yX0_isTold.cls ≠ "java/lang/invoke/VarHandle" ∧ (parseMethodDescriptor yX0_isTold.desc).map (fun d => d.parameters.length) = some 2 := by decide +kernel
theorem kGX0_181 : GoodIn lw_all (wsV RX0 181 RX0 yX0_renew (ws_ yX0_renew cX0_renew 2 none)) := lw_V q508 q510 qs2 q116 q511
theorem kI_X0_renew : yX0_renew.cls = RX0 ∧ yX0_renew.cls ≠ "java/lang/invoke/MethodHandle" ∧ yX0_renew.cls ≠ "java/lang/invoke/VarHandle" ∧ (parseMethodDescriptor yX0_renew.desc).map (fun d => d.parameters.length) = some 1 := by decide +kernel
def rnO (g : St) (x : Int32) : Option (Nat × Nat) := if x < 0 ∨ 6 ≤ x.toNatClampNeg ∨ g 45 x.toNatClampNeg < 1 ∨ 5 < g 45 x.toNatClampNeg then none else some (x.toNatClampNeg, (g 45 x.toNatClampNeg).toNatClampNeg)
theorem rnO_in {g : St} {x : Int32} {pp kd : Nat} (h : rnO g x = some (pp, kd)) : pp < 6 ∧ x = nI pp ∧ g 45 pp = nI kd ∧ 1 ≤ kd ∧ kd ≤ 5 := by
  unfold rnO at h
  split at h
  · cases h
  · next q =>
    have e := Option.some.inj h
    have e1 : x.toNatClampNeg = pp := congrArg Prod.fst e
    have e2 : (g 45 x.toNatClampNeg).toNatClampNeg = kd := congrArg Prod.snd e
    rw [e1] at e2 q
    obtain ⟨j, hj, ej⟩ := nI_of (x := x) (fun z => q (Or.inl z))
    have ep : pp = j := by rw [← e1, ej]; exact nI_clamp hj
    have hp : pp < 6 := Nat.not_le.mp fun z => q (Or.inr (Or.inl z))
    have a1 : ¬ g 45 pp < 1 := fun z => q (Or.inr (Or.inr (Or.inl z)))
    have a2 : ¬ (5 : Int32) < g 45 pp := fun z => q (Or.inr (Or.inr (Or.inr z)))
    have a0 : ¬ g 45 pp < 0 := fun z => a1 (by rw [Int32.lt_iff_toInt_lt] at z ⊢; have i0 : (0 : Int32).toInt = 0 := by decide
                                               have i1 : (1 : Int32).toInt = 1 := by decide
                                               omega)
    obtain ⟨k, hk, ek⟩ := nI_of a0
    have ekd : kd = k := by rw [← e2, ek]; exact nI_clamp hk
    subst ekd
    subst ep
    rw [ek] at a1 a2
    refine ⟨hp, ej, ek, ?_, ?_⟩
    · rcases Nat.eq_zero_or_pos kd with z | z
      · subst z
        exact absurd (by decide) a1
      · exact z
    · exact Nat.not_lt.mp fun z => a2 (nI_lt (a := 5) z hk)
theorem rnO_n {g : St} {pp kd : Nat} (hp : pp < 6) (hk : g 45 pp = nI kd) (h1 : 1 ≤ kd) (h5 : kd ≤ 5) : rnO g (nI pp) = some (pp, kd) := by
  unfold rnO
  rw [nI_clamp (by omega), hk, nI_clamp (by omega), if_neg]
  intro q
  rcases q with q | q | q | q
  · exact nI_pos (by omega) q
  · omega
  · exact nI_nlt (a := kd) (b := 1) h1 (by omega) q
  · exact nI_nlt (a := 5) (b := kd) h5 (by omega) q
/-- a person's object was made anew, or not -/
def RN (o : Option (Nat × Nat)) (g : St) (ρ : Rf) (dy : va_W) (ρ' : Rf) (dy' : va_W) : Prop := (o = none ∧ ρ' = ρ ∧ dy' = dy) ∨ ∃ pp kd q, o = some (pp, kd) ∧ pp < 6 ∧ 1 ≤ kd ∧ kd ≤ 5 ∧ g 45 pp = nI kd ∧ ρ' = upR ρ 1 pp (some q) ∧ dy' = dy ++ [(q, .inr (6 + kd, [.int (nI pp), .int (g 47 pp)]))]
section KRN
variable {p : Program} {l : Launch} {e : Env} {R : Room} {s : State} {m : MethodId} {args : Array Value} {below : List Frame} {meth : Method} {c : Code} {Q : State → Prop} {D : va_G} {A : Nat → Prop} {nL ce sl : Nat} {g : St} {pc : Nat} {lv : List (Nat × Value)} {st : List Value} {cc : ByteArray} {K : Nat → Nat} {δ : Nat → ClassId} {sr ρ : Rf} {dy : va_W} {aK aV : Nat → Nat}
theorem tk_renew (Y : CY p c cc nL s args RX0 m meth D vwCl (kT δ) A aK aV) {x : Int32} {pp kd : Nat} (h : rnO g x = some (pp, kd)) (hR : 6 ≤ R.frames ∧ 181 ≤ R.locals) (hc : ce + 1 ≤ R.cells ∧ sl + 2 ≤ R.slots) (hW : (st.map fun v => v.category).sum ≤ 8) (hdg : decode cc pc = .ok (.invokevirtual 181, 3)) (kk : ∀ q : Nat, TW p l e R s m args below meth c Q D vwCl A (kW K δ sr (upR ρ 1 pp (some q)) (dy ++ [(q, .inr (6 + kd, [.int (nI pp), .int (g 47 pp)]))])) nL (ce + 1) (sl + 2) g (pc + 3) lv st) : TW p l e R s m args below meth c Q D vwCl A (kW K δ sr ρ dy) nL ce sl g pc lv (.int x :: .ref (K 0) :: st) := by
  obtain ⟨h1, rfl, h3, h4, h5⟩ := rnO_in h
  refine tx_callV (n := 1) (C := RX0) (b := K 0) (As := [.int (nI pp)]) (st := st) Y (kx_renew h1 h3 h4 h5) kGX0_181 kI_X0_renew hR hc 0 (rfl : (kW K δ sr ρ dy g)[0]? = _) rfl rfl rfl hW hdg (fun E q t h => h.elim) (fun v t h => ?_)
  obtain ⟨rfl, q, hb⟩ := h
  exact TW.at (kk q) hb
end KRN
noncomputable def kF_X3_become_3_4 (g : St) : Option (St) :=
  (pf g 40 0 (g 60 0)).bind fun g1 =>
  (pf g1 40 1 (g1 60 1)).bind fun g2 =>
  (pf g2 40 2 (g2 60 2)).bind fun g3 =>
  (pf g3 40 3 (g3 60 3)).bind fun g4 =>
  (pf g4 40 4 (g4 60 4)).bind fun g5 =>
  (cpy g5 65 6 45 6 (0 : Int32) (0 : Int32) (6 : Int32)).bind fun g6 =>
  (cpy g6 66 6 46 6 (0 : Int32) (0 : Int32) (6 : Int32)).bind fun g7 =>
  (cpy g7 67 6 47 6 (0 : Int32) (0 : Int32) (6 : Int32)).bind fun g8 =>
  (cpy g8 68 6 48 6 (0 : Int32) (0 : Int32) (6 : Int32)).bind fun g9 =>
  (cpy g9 69 6 49 6 (0 : Int32) (0 : Int32) (6 : Int32)).bind fun g10 =>
  (cpy g10 70 8 50 8 (0 : Int32) (0 : Int32) (8 : Int32)).bind fun g11 =>
  (cpy g11 71 8 51 8 (0 : Int32) (0 : Int32) (8 : Int32)).bind fun g12 =>
  (cpy g12 72 6 52 6 (0 : Int32) (0 : Int32) (6 : Int32)).bind fun g13 =>
  (cpy g13 73 6 53 6 (0 : Int32) (0 : Int32) (6 : Int32)).bind fun g14 =>
  (cpy g14 74 6 54 6 (0 : Int32) (0 : Int32) (6 : Int32)).bind fun g15 =>
  (cpy g15 75 12 55 12 (0 : Int32) (0 : Int32) (12 : Int32)).bind fun g16 =>
  (cpy g16 76 12 56 12 (0 : Int32) (0 : Int32) (12 : Int32)).bind fun g17 =>
  (cpy g17 77 12 57 12 (0 : Int32) (0 : Int32) (12 : Int32)).bind fun g18 =>
  some g18
set_option maxHeartbeats 4000000 in
theorem kC_X3_become_3_4 {l : Launch} {D : va_G} {A : Nat → Prop} {K : Nat → Nat} {δ : Nat → ClassId} {sr ρ : Rf} {dy : va_W} {g : St} {z : St} (hf : kF_X3_become_3_4 g = some z) : Ct l yX3_become cX3_become 2 none 1 40 D vwCl (kT δ) A (kW K δ sr ρ dy) [.ref (K 3), .ref (K 4)] g (QV D vwCl A (kW K δ sr (upR ρ 0 0 (ρ 0 1)) dy) z) := by
  unfold kF_X3_become_3_4 at hf
  refine ct_intro (own := RX3) (lv0 := [(0, .ref (K 3)), (1, .ref (K 4))]) (by decide) rfl (Nat.le_of_ble_eq_true rfl) rfl ?_
  intro p e s m args below meth c X hr
  refine tw_aload_n X dX3_become_0 rfl 0 rfl ?_
  refine tw_aload_n X dX3_become_1 rfl 1 rfl ?_
  refine kgX3_61_4 X  dX3_become_2 ?_
  obtain ⟨g1, hg1, hf⟩ := bnd hf
  refine kpX3_61_3 X hg1 dX3_become_5 ?_
  refine tw_aload_n X dX3_become_8 rfl 0 rfl ?_
  refine tw_aload_n X dX3_become_9 rfl 1 rfl ?_
  refine kgX3_64_4 X  dX3_become_10 ?_
  obtain ⟨g2, hg2, hf⟩ := bnd hf
  refine kpX3_64_3 X hg2 dX3_become_13 ?_
  refine tw_aload_n X dX3_become_16 rfl 0 rfl ?_
  refine tw_aload_n X dX3_become_17 rfl 1 rfl ?_
  refine kgX3_67_4 X  dX3_become_18 ?_
  obtain ⟨g3, hg3, hf⟩ := bnd hf
  refine kpX3_67_3 X hg3 dX3_become_21 ?_
  refine tw_aload_n X dX3_become_24 rfl 0 rfl ?_
  refine tw_aload_n X dX3_become_25 rfl 1 rfl ?_
  refine kgX3_70_4 X  dX3_become_26 ?_
  obtain ⟨g4, hg4, hf⟩ := bnd hf
  refine kpX3_70_3 X hg4 dX3_become_29 ?_
  refine tw_aload_n X dX3_become_32 rfl 0 rfl ?_
  refine tw_aload_n X dX3_become_33 rfl 1 rfl ?_
  refine kgX3_9_4 X  dX3_become_34 ?_
  obtain ⟨g5, hg5, hf⟩ := bnd hf
  refine kpX3_9_3 X hg5 dX3_become_37 ?_
  refine tw_aload_n X dX3_become_40 rfl 0 rfl ?_
  refine tw_aload_n X dX3_become_41 rfl 1 rfl ?_
  refine kgq_1 X  dX3_become_42 ?_
  refine kpq_0_1 X dX3_become_45 ?_
  refine tw_aload_n X dX3_become_48 rfl 1 rfl ?_
  refine kgX3_15_4 X  dX3_become_49 ?_
  refine tw_iconst (v := 0) X dX3_become_52 rfl ?_
  refine tw_aload_n X dX3_become_53 rfl 0 rfl ?_
  refine kgX3_15_3 X  dX3_become_54 ?_
  refine tw_iconst (v := 0) X dX3_become_57 rfl ?_
  refine tw_bipush (v := 6) X dX3_become_58 rfl ?_
  obtain ⟨g6, hg6, hf⟩ := bnd hf
  refine kcX3_65_45 X hg6 ⟨Nat.le_of_ble_eq_true rfl, Nat.le_of_ble_eq_true rfl⟩ (Nat.le_of_ble_eq_true rfl) dX3_become_60 ?_
  refine tw_aload_n X dX3_become_63 rfl 1 rfl ?_
  refine kgX3_19_4 X  dX3_become_64 ?_
  refine tw_iconst (v := 0) X dX3_become_67 rfl ?_
  refine tw_aload_n X dX3_become_68 rfl 0 rfl ?_
  refine kgX3_19_3 X  dX3_become_69 ?_
  refine tw_iconst (v := 0) X dX3_become_72 rfl ?_
  refine tw_bipush (v := 6) X dX3_become_73 rfl ?_
  obtain ⟨g7, hg7, hf⟩ := bnd hf
  refine kcX3_66_46 X hg7 ⟨Nat.le_of_ble_eq_true rfl, Nat.le_of_ble_eq_true rfl⟩ (Nat.le_of_ble_eq_true rfl) dX3_become_75 ?_
  refine tw_aload_n X dX3_become_78 rfl 1 rfl ?_
  refine kgX3_22_4 X  dX3_become_79 ?_
  refine tw_iconst (v := 0) X dX3_become_82 rfl ?_
  refine tw_aload_n X dX3_become_83 rfl 0 rfl ?_
  refine kgX3_22_3 X  dX3_become_84 ?_
  refine tw_iconst (v := 0) X dX3_become_87 rfl ?_
  refine tw_bipush (v := 6) X dX3_become_88 rfl ?_
  obtain ⟨g8, hg8, hf⟩ := bnd hf
  refine kcX3_67_47 X hg8 ⟨Nat.le_of_ble_eq_true rfl, Nat.le_of_ble_eq_true rfl⟩ (Nat.le_of_ble_eq_true rfl) dX3_become_90 ?_
  refine tw_aload_n X dX3_become_93 rfl 1 rfl ?_
  refine kgX3_25_4 X  dX3_become_94 ?_
  refine tw_iconst (v := 0) X dX3_become_97 rfl ?_
  refine tw_aload_n X dX3_become_98 rfl 0 rfl ?_
  refine kgX3_25_3 X  dX3_become_99 ?_
  refine tw_iconst (v := 0) X dX3_become_102 rfl ?_
  refine tw_bipush (v := 6) X dX3_become_103 rfl ?_
  obtain ⟨g9, hg9, hf⟩ := bnd hf
  refine kcX3_68_48 X hg9 ⟨Nat.le_of_ble_eq_true rfl, Nat.le_of_ble_eq_true rfl⟩ (Nat.le_of_ble_eq_true rfl) dX3_become_105 ?_
  refine tw_aload_n X dX3_become_108 rfl 1 rfl ?_
  refine kgX3_28_4 X  dX3_become_109 ?_
  refine tw_iconst (v := 0) X dX3_become_112 rfl ?_
  refine tw_aload_n X dX3_become_113 rfl 0 rfl ?_
  refine kgX3_28_3 X  dX3_become_114 ?_
  refine tw_iconst (v := 0) X dX3_become_117 rfl ?_
  refine tw_bipush (v := 6) X dX3_become_118 rfl ?_
  obtain ⟨g10, hg10, hf⟩ := bnd hf
  refine kcX3_69_49 X hg10 ⟨Nat.le_of_ble_eq_true rfl, Nat.le_of_ble_eq_true rfl⟩ (Nat.le_of_ble_eq_true rfl) dX3_become_120 ?_
  refine tw_aload_n X dX3_become_123 rfl 1 rfl ?_
  refine kgX3_31_4 X  dX3_become_124 ?_
  refine tw_iconst (v := 0) X dX3_become_127 rfl ?_
  refine tw_aload_n X dX3_become_128 rfl 0 rfl ?_
  refine kgX3_31_3 X  dX3_become_129 ?_
  refine tw_iconst (v := 0) X dX3_become_132 rfl ?_
  refine tw_bipush (v := 8) X dX3_become_133 rfl ?_
  obtain ⟨g11, hg11, hf⟩ := bnd hf
  refine kcX3_70_50 X hg11 ⟨Nat.le_of_ble_eq_true rfl, Nat.le_of_ble_eq_true rfl⟩ (Nat.le_of_ble_eq_true rfl) dX3_become_135 ?_
  refine tw_aload_n X dX3_become_138 rfl 1 rfl ?_
  refine kgX3_34_4 X  dX3_become_139 ?_
  refine tw_iconst (v := 0) X dX3_become_142 rfl ?_
  refine tw_aload_n X dX3_become_143 rfl 0 rfl ?_
  refine kgX3_34_3 X  dX3_become_144 ?_
  refine tw_iconst (v := 0) X dX3_become_147 rfl ?_
  refine tw_bipush (v := 8) X dX3_become_148 rfl ?_
  obtain ⟨g12, hg12, hf⟩ := bnd hf
  refine kcX3_71_51 X hg12 ⟨Nat.le_of_ble_eq_true rfl, Nat.le_of_ble_eq_true rfl⟩ (Nat.le_of_ble_eq_true rfl) dX3_become_150 ?_
  refine tw_aload_n X dX3_become_153 rfl 1 rfl ?_
  refine kgX3_37_4 X  dX3_become_154 ?_
  refine tw_iconst (v := 0) X dX3_become_157 rfl ?_
  refine tw_aload_n X dX3_become_158 rfl 0 rfl ?_
  refine kgX3_37_3 X  dX3_become_159 ?_
  refine tw_iconst (v := 0) X dX3_become_162 rfl ?_
  refine tw_bipush (v := 6) X dX3_become_163 rfl ?_
  obtain ⟨g13, hg13, hf⟩ := bnd hf
  refine kcX3_72_52 X hg13 ⟨Nat.le_of_ble_eq_true rfl, Nat.le_of_ble_eq_true rfl⟩ (Nat.le_of_ble_eq_true rfl) dX3_become_165 ?_
  refine tw_aload_n X dX3_become_168 rfl 1 rfl ?_
  refine kgX3_40_4 X  dX3_become_169 ?_
  refine tw_iconst (v := 0) X dX3_become_172 rfl ?_
  refine tw_aload_n X dX3_become_173 rfl 0 rfl ?_
  refine kgX3_40_3 X  dX3_become_174 ?_
  refine tw_iconst (v := 0) X dX3_become_177 rfl ?_
  refine tw_bipush (v := 6) X dX3_become_178 rfl ?_
  obtain ⟨g14, hg14, hf⟩ := bnd hf
  refine kcX3_73_53 X hg14 ⟨Nat.le_of_ble_eq_true rfl, Nat.le_of_ble_eq_true rfl⟩ (Nat.le_of_ble_eq_true rfl) dX3_become_180 ?_
  refine tw_aload_n X dX3_become_183 rfl 1 rfl ?_
  refine kgX3_43_4 X  dX3_become_184 ?_
  refine tw_iconst (v := 0) X dX3_become_187 rfl ?_
  refine tw_aload_n X dX3_become_188 rfl 0 rfl ?_
  refine kgX3_43_3 X  dX3_become_189 ?_
  refine tw_iconst (v := 0) X dX3_become_192 rfl ?_
  refine tw_bipush (v := 6) X dX3_become_193 rfl ?_
  obtain ⟨g15, hg15, hf⟩ := bnd hf
  refine kcX3_74_54 X hg15 ⟨Nat.le_of_ble_eq_true rfl, Nat.le_of_ble_eq_true rfl⟩ (Nat.le_of_ble_eq_true rfl) dX3_become_195 ?_
  refine tw_aload_n X dX3_become_198 rfl 1 rfl ?_
  refine kgX3_46_4 X  dX3_become_199 ?_
  refine tw_iconst (v := 0) X dX3_become_202 rfl ?_
  refine tw_aload_n X dX3_become_203 rfl 0 rfl ?_
  refine kgX3_46_3 X  dX3_become_204 ?_
  refine tw_iconst (v := 0) X dX3_become_207 rfl ?_
  refine tw_bipush (v := 12) X dX3_become_208 rfl ?_
  obtain ⟨g16, hg16, hf⟩ := bnd hf
  refine kcX3_75_55 X hg16 ⟨Nat.le_of_ble_eq_true rfl, Nat.le_of_ble_eq_true rfl⟩ (Nat.le_of_ble_eq_true rfl) dX3_become_210 ?_
  refine tw_aload_n X dX3_become_213 rfl 1 rfl ?_
  refine kgX3_49_4 X  dX3_become_214 ?_
  refine tw_iconst (v := 0) X dX3_become_217 rfl ?_
  refine tw_aload_n X dX3_become_218 rfl 0 rfl ?_
  refine kgX3_49_3 X  dX3_become_219 ?_
  refine tw_iconst (v := 0) X dX3_become_222 rfl ?_
  refine tw_bipush (v := 12) X dX3_become_223 rfl ?_
  obtain ⟨g17, hg17, hf⟩ := bnd hf
  refine kcX3_76_56 X hg17 ⟨Nat.le_of_ble_eq_true rfl, Nat.le_of_ble_eq_true rfl⟩ (Nat.le_of_ble_eq_true rfl) dX3_become_225 ?_
  refine tw_aload_n X dX3_become_228 rfl 1 rfl ?_
  refine kgX3_52_4 X  dX3_become_229 ?_
  refine tw_iconst (v := 0) X dX3_become_232 rfl ?_
  refine tw_aload_n X dX3_become_233 rfl 0 rfl ?_
  refine kgX3_52_3 X  dX3_become_234 ?_
  refine tw_iconst (v := 0) X dX3_become_237 rfl ?_
  refine tw_bipush (v := 12) X dX3_become_238 rfl ?_
  obtain ⟨g18, hg18, hf⟩ := bnd hf
  refine kcX3_77_57 X hg18 ⟨Nat.le_of_ble_eq_true rfl, Nat.le_of_ble_eq_true rfl⟩ (Nat.le_of_ble_eq_true rfl) dX3_become_240 ?_
  exact tw_vret X hr (Option.some.inj hf) dX3_become_243
noncomputable def kF_person (g : St) (a1 : Int32) (a2 : Int32) (a3 : Int32) (a4 : Int32) : Option (Int32 × St × Option (Nat × Nat)) :=
  if (kF_isKind a1) = 0 then
    some ((-1 : Int32), g, none)
  else
    if (kF_isTold (1 : Int32) a2) = 0 then
      some ((-1 : Int32), g, none)
    else
      if (kF_isTold (2 : Int32) a3) = 0 then
        some ((-1 : Int32), g, none)
      else
        if (kF_isTold (3 : Int32) a4) = 0 then
          some ((-1 : Int32), g, none)
        else
          if (g 40 0) = (6 : Int32) then
            some ((-2 : Int32), g, none)
          else
            (wr g 45 6 (g 40 0) a1).bind fun g5 =>
            (wr g5 46 6 (g 40 0) a2).bind fun g6 =>
            (wr g6 47 6 (g 40 0) a3).bind fun g7 =>
            (wr g7 48 6 (g 40 0) a4).bind fun g8 =>
            (wr g8 49 6 (g 40 0) (0 : Int32)).bind fun g9 =>
            (pf g9 40 0 ((g9 40 0) + (1 : Int32))).bind fun g10 =>
            (rnO g10 (g 40 0)).bind (un2 fun pp kd =>
            some ((g 40 0), g10, some (pp, kd)))
set_option maxHeartbeats 4000000 in
theorem kC_person {l : Launch} {D : va_G} {A : Nat → Prop} {K : Nat → Nat} {δ : Nat → ClassId} {sr ρ : Rf} {dy : va_W} {aK aV : Nat → Nat} {g : St} {a1 : Int32} {a2 : Int32} {a3 : Int32} {a4 : Int32} {z : Int32 × St × Option (Nat × Nat)} (hf : kF_person g a1 a2 a3 a4 = some z) : CX l yX0_person cX0_person 6 (some .int) 6 181 1 2 D vwCl (kT δ) A aK aV (kW K δ sr ρ dy) [.ref (K 0), .int a1, .int a2, .int a3, .int a4] g (fun v t => v = some (.int z.1) ∧ ∃ ρ' dy', BW D vwCl A (kW K δ sr ρ' dy') z.2.1 t ∧ RN z.2.2 z.2.1 ρ dy ρ' dy') (fun _ _ _ => False) := by
  unfold kF_person at hf
  refine cx_intro (own := RX0) (lv0 := [(0, .ref (K 0)), (1, .int a1), (2, .int a2), (3, .int a3), (4, .int a4)]) (by decide) rfl (Nat.le_of_ble_eq_true rfl) rfl ?_
  intro p e s m args below meth c Y hr hmn htab
  have X := Y.x
  refine tw_iload_n X dX0_person_0 rfl 1 rfl ?_
  refine tw_callSz (As := [.int a1]) (st := []) X (kC_isKind (g := g) a1) kGX0_167 kI_X0_isKind ⟨Nat.le_of_ble_eq_true rfl, Nat.le_of_ble_eq_true rfl⟩ ⟨Nat.zero_le _, Nat.zero_le _⟩ rfl rfl (Nat.le_of_ble_eq_true rfl) dX0_person_1 ?_
  intro hb1
  refine tw_if_eq (tgt := 32) X dX0_person_4 rfl hf (fun q15 hf => ?_) (fun q15 hf => ?_)
  · clear q15
    refine tw_iconst (v := -1) X dX0_person_32 rfl ?_
    obtain rfl := Option.some.inj hf
    exact tx_iret X hr (Nat.zero_le _) (Nat.zero_le _) (fun t b => ⟨rfl, _, _, b, Or.inl ⟨rfl, rfl, rfl⟩⟩) dX0_person_33
  · clear q15
    refine tw_iconst (v := 1) X dX0_person_7 rfl ?_
    refine tw_iload_n X dX0_person_8 rfl 2 rfl ?_
    refine tw_callSz (As := [.int (1 : Int32), .int a2]) (st := []) X (kC_isTold (g := g) (1 : Int32) a2) kGX0_170 kI_X0_isTold ⟨Nat.le_of_ble_eq_true rfl, Nat.le_of_ble_eq_true rfl⟩ ⟨Nat.zero_le _, Nat.zero_le _⟩ rfl rfl (Nat.le_of_ble_eq_true rfl) dX0_person_9 ?_
    intro hb2
    refine tw_if_eq (tgt := 32) X dX0_person_12 rfl hf (fun q14 hf => ?_) (fun q14 hf => ?_)
    · clear q14
      refine tw_iconst (v := -1) X dX0_person_32 rfl ?_
      obtain rfl := Option.some.inj hf
      exact tx_iret X hr (Nat.zero_le _) (Nat.zero_le _) (fun t b => ⟨rfl, _, _, b, Or.inl ⟨rfl, rfl, rfl⟩⟩) dX0_person_33
    · clear q14
      refine tw_iconst (v := 2) X dX0_person_15 rfl ?_
      refine tw_iload_n X dX0_person_16 rfl 3 rfl ?_
      refine tw_callSz (As := [.int (2 : Int32), .int a3]) (st := []) X (kC_isTold (g := g) (2 : Int32) a3) kGX0_170 kI_X0_isTold ⟨Nat.le_of_ble_eq_true rfl, Nat.le_of_ble_eq_true rfl⟩ ⟨Nat.zero_le _, Nat.zero_le _⟩ rfl rfl (Nat.le_of_ble_eq_true rfl) dX0_person_17 ?_
      intro hb3
      refine tw_if_eq (tgt := 32) X dX0_person_20 rfl hf (fun q13 hf => ?_) (fun q13 hf => ?_)
      · clear q13
        refine tw_iconst (v := -1) X dX0_person_32 rfl ?_
        obtain rfl := Option.some.inj hf
        exact tx_iret X hr (Nat.zero_le _) (Nat.zero_le _) (fun t b => ⟨rfl, _, _, b, Or.inl ⟨rfl, rfl, rfl⟩⟩) dX0_person_33
      · clear q13
        refine tw_iconst (v := 3) X dX0_person_23 rfl ?_
        refine tw_iload X dX0_person_24 4 rfl ?_
        refine tw_callSz (As := [.int (3 : Int32), .int a4]) (st := []) X (kC_isTold (g := g) (3 : Int32) a4) kGX0_170 kI_X0_isTold ⟨Nat.le_of_ble_eq_true rfl, Nat.le_of_ble_eq_true rfl⟩ ⟨Nat.zero_le _, Nat.zero_le _⟩ rfl rfl (Nat.le_of_ble_eq_true rfl) dX0_person_26 ?_
        intro hb4
        refine tw_if_ne (tgt := 34) X dX0_person_29 rfl hf (fun q12 hf => ?_) (fun q12 hf => ?_)
        · clear q12
          refine tw_iconst (v := -1) X dX0_person_32 rfl ?_
          obtain rfl := Option.some.inj hf
          exact tx_iret X hr (Nat.zero_le _) (Nat.zero_le _) (fun t b => ⟨rfl, _, _, b, Or.inl ⟨rfl, rfl, rfl⟩⟩) dX0_person_33
        · clear q12
          refine tw_aload_n X dX0_person_34 rfl 0 rfl ?_
          refine kgX0_47_0 X  dX0_person_35 ?_
          refine kgX0_147_3 X  dX0_person_38 ?_
          refine tw_bipush (v := 6) X dX0_person_41 rfl ?_
          refine tw_icmp_ne (tgt := 49) X dX0_person_43 rfl hf (fun q11 hf => ?_) (fun q11 hf => ?_)
          · clear q11
            refine tw_bipush (v := -2) X dX0_person_46 rfl ?_
            obtain rfl := Option.some.inj hf
            exact tx_iret X hr (Nat.zero_le _) (Nat.zero_le _) (fun t b => ⟨rfl, _, _, b, Or.inl ⟨rfl, rfl, rfl⟩⟩) dX0_person_48
          · clear q11
            refine tw_aload_n X dX0_person_49 rfl 0 rfl ?_
            refine kgX0_47_0 X  dX0_person_50 ?_
            refine kgX0_147_3 X  dX0_person_53 ?_
            refine tw_istore (lv' := [(5, .int (g 40 0)), (0, .ref (K 0)), (1, .int a1), (2, .int a2), (3, .int a3), (4, .int a4)]) X dX0_person_56 (by decide) rfl ?_
            refine tw_aload_n X dX0_person_58 rfl 1 rfl ?_
            refine kgX0_47_0 X  dX0_person_59 ?_
            refine kgX0_157_3 X  dX0_person_62 ?_
            refine tw_iload X dX0_person_65 0 rfl ?_
            refine tw_iload_n X dX0_person_67 rfl 2 rfl ?_
            obtain ⟨g5, hg5, hf⟩ := bnd hf
            refine ksX0_45 X hg5 dX0_person_68 ?_
            refine tw_aload_n X dX0_person_69 rfl 1 rfl ?_
            refine kgX0_47_0 X  dX0_person_70 ?_
            refine kgX0_174_3 X  dX0_person_73 ?_
            refine tw_iload X dX0_person_76 0 rfl ?_
            refine tw_iload_n X dX0_person_78 rfl 3 rfl ?_
            obtain ⟨g6, hg6, hf⟩ := bnd hf
            refine ksX0_46 X hg6 dX0_person_79 ?_
            refine tw_aload_n X dX0_person_80 rfl 1 rfl ?_
            refine kgX0_47_0 X  dX0_person_81 ?_
            refine kgX0_160_3 X  dX0_person_84 ?_
            refine tw_iload X dX0_person_87 0 rfl ?_
            refine tw_iload_n X dX0_person_89 rfl 4 rfl ?_
            obtain ⟨g7, hg7, hf⟩ := bnd hf
            refine ksX0_47 X hg7 dX0_person_90 ?_
            refine tw_aload_n X dX0_person_91 rfl 1 rfl ?_
            refine kgX0_47_0 X  dX0_person_92 ?_
            refine kgX0_176_3 X  dX0_person_95 ?_
            refine tw_iload X dX0_person_98 0 rfl ?_
            refine tw_iload X dX0_person_100 5 rfl ?_
            obtain ⟨g8, hg8, hf⟩ := bnd hf
            refine ksX0_48 X hg8 dX0_person_102 ?_
            refine tw_aload_n X dX0_person_103 rfl 1 rfl ?_
            refine kgX0_47_0 X  dX0_person_104 ?_
            refine kgX0_178_3 X  dX0_person_107 ?_
            refine tw_iload X dX0_person_110 0 rfl ?_
            refine tw_iconst (v := 0) X dX0_person_112 rfl ?_
            obtain ⟨g9, hg9, hf⟩ := bnd hf
            refine ksX0_49 X hg9 dX0_person_113 ?_
            refine tw_aload_n X dX0_person_114 rfl 1 rfl ?_
            refine kgX0_47_0 X  dX0_person_115 ?_
            refine tw_dup X dX0_person_118 rfl ?_
            refine kgX0_147_3 X  dX0_person_119 ?_
            refine tw_iconst (v := 1) X dX0_person_122 rfl ?_
            refine tw_iadd X dX0_person_123 ?_
            obtain ⟨g10, hg10, hf⟩ := bnd hf
            refine kpX0_147_3 X hg10 dX0_person_124 ?_
            refine tw_aload_n X dX0_person_127 rfl 1 rfl ?_
            refine tw_iload X dX0_person_128 0 rfl ?_
            obtain ⟨⟨pp, kd⟩, hrn, hf⟩ := bnd hf
            dsimp only [un2] at hf
            obtain ⟨rn1, rn2, rn3, rn4, rn5⟩ := rnO_in hrn
            refine tk_renew Y hrn ⟨Nat.le_of_ble_eq_true rfl, Nat.le_of_ble_eq_true rfl⟩ ⟨Nat.le_refl _, Nat.le_refl _⟩ (Nat.le_of_ble_eq_true rfl) dX0_person_130 (fun q => ?_)
            refine tw_iload X dX0_person_133 0 rfl ?_
            obtain rfl := Option.some.inj hf
            exact tx_iret X hr (Nat.le_refl _) (Nat.le_refl _) (fun t b => ⟨rfl, _, _, b, Or.inr ⟨pp, kd, q, rfl, rn1, rn4, rn5, rn3, rfl, rfl⟩⟩) dX0_person_135
noncomputable def kF_change (g : St) (a1 : Int32) (a2 : Int32) (a3 : Int32) : Option (Int32 × St × Option (Nat × Nat)) :=
  (kF_isPerson g a1).bind fun x1 =>
  if x1 = 0 then
    some ((-1 : Int32), g, none)
  else
    if (kF_isTold a2 a3) = 0 then
      some ((-1 : Int32), g, none)
    else
      if a2 = (1 : Int32) then
        (rd (g 46) 6 a1).bind fun x4 =>
        (wr g 46 6 a1 a3).bind fun g5 =>
        (rnO g5 a1).bind (un2 fun pp kd =>
        some (x4, g5, some (pp, kd)))
      else
        if a2 = (2 : Int32) then
          (rd (g 47) 6 a1).bind fun x6 =>
          (wr g 47 6 a1 a3).bind fun g7 =>
          (rnO g7 a1).bind (un2 fun pp kd =>
          some (x6, g7, some (pp, kd)))
        else
          (rd (g 48) 6 a1).bind fun x8 =>
          (wr g 48 6 a1 a3).bind fun g9 =>
          (rnO g9 a1).bind (un2 fun pp kd =>
          some (x8, g9, some (pp, kd)))
set_option maxHeartbeats 4000000 in
theorem kC_change {l : Launch} {D : va_G} {A : Nat → Prop} {K : Nat → Nat} {δ : Nat → ClassId} {sr ρ : Rf} {dy : va_W} {aK aV : Nat → Nat} {g : St} {a1 : Int32} {a2 : Int32} {a3 : Int32} {z : Int32 × St × Option (Nat × Nat)} (hf : kF_change g a1 a2 a3 = some z) : CX l yX0_change cX0_change 6 (some .int) 6 181 1 2 D vwCl (kT δ) A aK aV (kW K δ sr ρ dy) [.ref (K 0), .int a1, .int a2, .int a3] g (fun v t => v = some (.int z.1) ∧ ∃ ρ' dy', BW D vwCl A (kW K δ sr ρ' dy') z.2.1 t ∧ RN z.2.2 z.2.1 ρ dy ρ' dy') (fun _ _ _ => False) := by
  unfold kF_change at hf
  refine cx_intro (own := RX0) (lv0 := [(0, .ref (K 0)), (1, .int a1), (2, .int a2), (3, .int a3)]) (by decide) rfl (Nat.le_of_ble_eq_true rfl) rfl ?_
  intro p e s m args below meth c Y hr hmn htab
  have X := Y.x
  refine tw_aload_n X dX0_change_0 rfl 0 rfl ?_
  refine tw_iload_n X dX0_change_1 rfl 1 rfl ?_
  obtain ⟨x1, hx1, hf⟩ := bnd hf
  refine tw_callVz (As := [.int a1]) (st := []) X (kC_isPerson hx1) kGX0_185 kI_X0_isPerson ⟨Nat.le_of_ble_eq_true rfl, Nat.le_of_ble_eq_true rfl⟩ ⟨Nat.zero_le _, Nat.zero_le _⟩ 0 rfl rfl rfl rfl (Nat.le_of_ble_eq_true rfl) dX0_change_2 ?_
  intro hb2
  refine tw_if_eq (tgt := 16) X dX0_change_5 rfl hf (fun q13 hf => ?_) (fun q13 hf => ?_)
  · clear q13
    refine tw_iconst (v := -1) X dX0_change_16 rfl ?_
    obtain rfl := Option.some.inj hf
    exact tx_iret X hr (Nat.zero_le _) (Nat.zero_le _) (fun t b => ⟨rfl, _, _, b, Or.inl ⟨rfl, rfl, rfl⟩⟩) dX0_change_17
  · clear q13
    refine tw_iload_n X dX0_change_8 rfl 2 rfl ?_
    refine tw_iload_n X dX0_change_9 rfl 3 rfl ?_
    refine tw_callSz (As := [.int a2, .int a3]) (st := []) X (kC_isTold (g := g) a2 a3) kGX0_170 kI_X0_isTold ⟨Nat.le_of_ble_eq_true rfl, Nat.le_of_ble_eq_true rfl⟩ ⟨Nat.zero_le _, Nat.zero_le _⟩ rfl rfl (Nat.le_of_ble_eq_true rfl) dX0_change_10 ?_
    intro hb3
    refine tw_if_ne (tgt := 18) X dX0_change_13 rfl hf (fun q12 hf => ?_) (fun q12 hf => ?_)
    · clear q12
      refine tw_iconst (v := -1) X dX0_change_16 rfl ?_
      obtain rfl := Option.some.inj hf
      exact tx_iret X hr (Nat.zero_le _) (Nat.zero_le _) (fun t b => ⟨rfl, _, _, b, Or.inl ⟨rfl, rfl, rfl⟩⟩) dX0_change_17
    · clear q12
      refine tw_iload_n X dX0_change_18 rfl 2 rfl ?_
      refine tw_iconst (v := 1) X dX0_change_19 rfl ?_
      refine tw_icmp_ne (tgt := 33) X dX0_change_20 rfl hf (fun q11 hf => ?_) (fun q11 hf => ?_)
      · clear q11
        refine tw_aload_n X dX0_change_23 rfl 0 rfl ?_
        refine kgX0_47_0 X  dX0_change_24 ?_
        refine kgX0_174_3 X  dX0_change_27 ?_
        refine tw_goto (tgt := 55) X dX0_change_30 rfl ?_
        refine tw_astore (lv' := [(4, .ref (K 46)), (0, .ref (K 0)), (1, .int a1), (2, .int a2), (3, .int a3)]) X dX0_change_55 (by decide) rfl ?_
        refine tw_aload X dX0_change_57 0 rfl ?_
        refine tw_iload_n X dX0_change_59 rfl 2 rfl ?_
        obtain ⟨x4, hx4, hf⟩ := bnd hf
        refine klX0_46 X hx4 dX0_change_60 ?_
        refine tw_istore (lv' := [(5, .int x4), (4, .ref (K 46)), (0, .ref (K 0)), (1, .int a1), (2, .int a2), (3, .int a3)]) X dX0_change_61 (by decide) rfl ?_
        refine tw_aload X dX0_change_63 1 rfl ?_
        refine tw_iload_n X dX0_change_65 rfl 3 rfl ?_
        refine tw_iload_n X dX0_change_66 rfl 5 rfl ?_
        obtain ⟨g5, hg5, hf⟩ := bnd hf
        refine ksX0_46 X hg5 dX0_change_67 ?_
        refine tw_aload_n X dX0_change_68 rfl 2 rfl ?_
        refine tw_iload_n X dX0_change_69 rfl 3 rfl ?_
        obtain ⟨⟨pp, kd⟩, hrn, hf⟩ := bnd hf
        dsimp only [un2] at hf
        obtain ⟨rn1, rn2, rn3, rn4, rn5⟩ := rnO_in hrn
        refine tk_renew Y hrn ⟨Nat.le_of_ble_eq_true rfl, Nat.le_of_ble_eq_true rfl⟩ ⟨Nat.le_refl _, Nat.le_refl _⟩ (Nat.le_of_ble_eq_true rfl) dX0_change_70 (fun q => ?_)
        refine tw_iload X dX0_change_73 0 rfl ?_
        obtain rfl := Option.some.inj hf
        exact tx_iret X hr (Nat.le_refl _) (Nat.le_refl _) (fun t b => ⟨rfl, _, _, b, Or.inr ⟨pp, kd, q, rfl, rn1, rn4, rn5, rn3, rfl, rfl⟩⟩) dX0_change_75
      · clear q11
        refine tw_iload_n X dX0_change_33 rfl 2 rfl ?_
        refine tw_iconst (v := 2) X dX0_change_34 rfl ?_
        refine tw_icmp_ne (tgt := 48) X dX0_change_35 rfl hf (fun q10 hf => ?_) (fun q10 hf => ?_)
        · clear q10
          refine tw_aload_n X dX0_change_38 rfl 0 rfl ?_
          refine kgX0_47_0 X  dX0_change_39 ?_
          refine kgX0_160_3 X  dX0_change_42 ?_
          refine tw_goto (tgt := 55) X dX0_change_45 rfl ?_
          refine tw_astore (lv' := [(4, .ref (K 47)), (0, .ref (K 0)), (1, .int a1), (2, .int a2), (3, .int a3)]) X dX0_change_55 (by decide) rfl ?_
          refine tw_aload X dX0_change_57 0 rfl ?_
          refine tw_iload_n X dX0_change_59 rfl 2 rfl ?_
          obtain ⟨x6, hx6, hf⟩ := bnd hf
          refine klX0_47 X hx6 dX0_change_60 ?_
          refine tw_istore (lv' := [(5, .int x6), (4, .ref (K 47)), (0, .ref (K 0)), (1, .int a1), (2, .int a2), (3, .int a3)]) X dX0_change_61 (by decide) rfl ?_
          refine tw_aload X dX0_change_63 1 rfl ?_
          refine tw_iload_n X dX0_change_65 rfl 3 rfl ?_
          refine tw_iload_n X dX0_change_66 rfl 5 rfl ?_
          obtain ⟨g7, hg7, hf⟩ := bnd hf
          refine ksX0_47 X hg7 dX0_change_67 ?_
          refine tw_aload_n X dX0_change_68 rfl 2 rfl ?_
          refine tw_iload_n X dX0_change_69 rfl 3 rfl ?_
          obtain ⟨⟨pp, kd⟩, hrn, hf⟩ := bnd hf
          dsimp only [un2] at hf
          obtain ⟨rn1, rn2, rn3, rn4, rn5⟩ := rnO_in hrn
          refine tk_renew Y hrn ⟨Nat.le_of_ble_eq_true rfl, Nat.le_of_ble_eq_true rfl⟩ ⟨Nat.le_refl _, Nat.le_refl _⟩ (Nat.le_of_ble_eq_true rfl) dX0_change_70 (fun q => ?_)
          refine tw_iload X dX0_change_73 0 rfl ?_
          obtain rfl := Option.some.inj hf
          exact tx_iret X hr (Nat.le_refl _) (Nat.le_refl _) (fun t b => ⟨rfl, _, _, b, Or.inr ⟨pp, kd, q, rfl, rn1, rn4, rn5, rn3, rfl, rfl⟩⟩) dX0_change_75
        · clear q10
          refine tw_aload_n X dX0_change_48 rfl 0 rfl ?_
          refine kgX0_47_0 X  dX0_change_49 ?_
          refine kgX0_176_3 X  dX0_change_52 ?_
          refine tw_astore (lv' := [(4, .ref (K 48)), (0, .ref (K 0)), (1, .int a1), (2, .int a2), (3, .int a3)]) X dX0_change_55 (by decide) rfl ?_
          refine tw_aload X dX0_change_57 0 rfl ?_
          refine tw_iload_n X dX0_change_59 rfl 2 rfl ?_
          obtain ⟨x8, hx8, hf⟩ := bnd hf
          refine klX0_48 X hx8 dX0_change_60 ?_
          refine tw_istore (lv' := [(5, .int x8), (4, .ref (K 48)), (0, .ref (K 0)), (1, .int a1), (2, .int a2), (3, .int a3)]) X dX0_change_61 (by decide) rfl ?_
          refine tw_aload X dX0_change_63 1 rfl ?_
          refine tw_iload_n X dX0_change_65 rfl 3 rfl ?_
          refine tw_iload_n X dX0_change_66 rfl 5 rfl ?_
          obtain ⟨g9, hg9, hf⟩ := bnd hf
          refine ksX0_48 X hg9 dX0_change_67 ?_
          refine tw_aload_n X dX0_change_68 rfl 2 rfl ?_
          refine tw_iload_n X dX0_change_69 rfl 3 rfl ?_
          obtain ⟨⟨pp, kd⟩, hrn, hf⟩ := bnd hf
          dsimp only [un2] at hf
          obtain ⟨rn1, rn2, rn3, rn4, rn5⟩ := rnO_in hrn
          refine tk_renew Y hrn ⟨Nat.le_of_ble_eq_true rfl, Nat.le_of_ble_eq_true rfl⟩ ⟨Nat.le_refl _, Nat.le_refl _⟩ (Nat.le_of_ble_eq_true rfl) dX0_change_70 (fun q => ?_)
          refine tw_iload X dX0_change_73 0 rfl ?_
          obtain rfl := Option.some.inj hf
          exact tx_iret X hr (Nat.le_refl _) (Nat.le_refl _) (fun t b => ⟨rfl, _, _, b, Or.inr ⟨pp, kd, q, rfl, rn1, rn4, rn5, rn3, rfl, rfl⟩⟩) dX0_change_75
noncomputable def kF_remake (g : St) (a1 : Int32) (a2 : Int32) : Option (Int32 × St × Option (Nat × Nat)) :=
  (kF_isPerson g a1).bind fun x1 =>
  if x1 = 0 then
    some ((-1 : Int32), g, none)
  else
    if (kF_isKind a2) = 0 then
      some ((-1 : Int32), g, none)
    else
      (rd (g 45) 6 a1).bind fun x4 =>
      (wr g 45 6 a1 a2).bind fun g5 =>
      (rnO g5 a1).bind (un2 fun pp kd =>
      some (x4, g5, some (pp, kd)))
set_option maxHeartbeats 4000000 in
theorem kC_remake {l : Launch} {D : va_G} {A : Nat → Prop} {K : Nat → Nat} {δ : Nat → ClassId} {sr ρ : Rf} {dy : va_W} {aK aV : Nat → Nat} {g : St} {a1 : Int32} {a2 : Int32} {z : Int32 × St × Option (Nat × Nat)} (hf : kF_remake g a1 a2 = some z) : CX l yX0_remake cX0_remake 4 (some .int) 6 181 1 2 D vwCl (kT δ) A aK aV (kW K δ sr ρ dy) [.ref (K 0), .int a1, .int a2] g (fun v t => v = some (.int z.1) ∧ ∃ ρ' dy', BW D vwCl A (kW K δ sr ρ' dy') z.2.1 t ∧ RN z.2.2 z.2.1 ρ dy ρ' dy') (fun _ _ _ => False) := by
  unfold kF_remake at hf
  refine cx_intro (own := RX0) (lv0 := [(0, .ref (K 0)), (1, .int a1), (2, .int a2)]) (by decide) rfl (Nat.le_of_ble_eq_true rfl) rfl ?_
  intro p e s m args below meth c Y hr hmn htab
  have X := Y.x
  refine tw_aload_n X dX0_remake_0 rfl 0 rfl ?_
  refine tw_iload_n X dX0_remake_1 rfl 1 rfl ?_
  obtain ⟨x1, hx1, hf⟩ := bnd hf
  refine tw_callVz (As := [.int a1]) (st := []) X (kC_isPerson hx1) kGX0_185 kI_X0_isPerson ⟨Nat.le_of_ble_eq_true rfl, Nat.le_of_ble_eq_true rfl⟩ ⟨Nat.zero_le _, Nat.zero_le _⟩ 0 rfl rfl rfl rfl (Nat.le_of_ble_eq_true rfl) dX0_remake_2 ?_
  intro hb2
  refine tw_if_eq (tgt := 15) X dX0_remake_5 rfl hf (fun q7 hf => ?_) (fun q7 hf => ?_)
  · clear q7
    refine tw_iconst (v := -1) X dX0_remake_15 rfl ?_
    obtain rfl := Option.some.inj hf
    exact tx_iret X hr (Nat.zero_le _) (Nat.zero_le _) (fun t b => ⟨rfl, _, _, b, Or.inl ⟨rfl, rfl, rfl⟩⟩) dX0_remake_16
  · clear q7
    refine tw_iload_n X dX0_remake_8 rfl 2 rfl ?_
    refine tw_callSz (As := [.int a2]) (st := []) X (kC_isKind (g := g) a2) kGX0_167 kI_X0_isKind ⟨Nat.le_of_ble_eq_true rfl, Nat.le_of_ble_eq_true rfl⟩ ⟨Nat.zero_le _, Nat.zero_le _⟩ rfl rfl (Nat.le_of_ble_eq_true rfl) dX0_remake_9 ?_
    intro hb3
    refine tw_if_ne (tgt := 17) X dX0_remake_12 rfl hf (fun q6 hf => ?_) (fun q6 hf => ?_)
    · clear q6
      refine tw_iconst (v := -1) X dX0_remake_15 rfl ?_
      obtain rfl := Option.some.inj hf
      exact tx_iret X hr (Nat.zero_le _) (Nat.zero_le _) (fun t b => ⟨rfl, _, _, b, Or.inl ⟨rfl, rfl, rfl⟩⟩) dX0_remake_16
    · clear q6
      refine tw_aload_n X dX0_remake_17 rfl 0 rfl ?_
      refine kgX0_47_0 X  dX0_remake_18 ?_
      refine kgX0_157_3 X  dX0_remake_21 ?_
      refine tw_iload_n X dX0_remake_24 rfl 1 rfl ?_
      obtain ⟨x4, hx4, hf⟩ := bnd hf
      refine klX0_45 X hx4 dX0_remake_25 ?_
      refine tw_istore_n (lv' := [(3, .int x4), (0, .ref (K 0)), (1, .int a1), (2, .int a2)]) X dX0_remake_26 rfl (by decide) rfl ?_
      refine tw_aload_n X dX0_remake_27 rfl 1 rfl ?_
      refine kgX0_47_0 X  dX0_remake_28 ?_
      refine kgX0_157_3 X  dX0_remake_31 ?_
      refine tw_iload_n X dX0_remake_34 rfl 2 rfl ?_
      refine tw_iload_n X dX0_remake_35 rfl 3 rfl ?_
      obtain ⟨g5, hg5, hf⟩ := bnd hf
      refine ksX0_45 X hg5 dX0_remake_36 ?_
      refine tw_aload_n X dX0_remake_37 rfl 1 rfl ?_
      refine tw_iload_n X dX0_remake_38 rfl 2 rfl ?_
      obtain ⟨⟨pp, kd⟩, hrn, hf⟩ := bnd hf
      dsimp only [un2] at hf
      obtain ⟨rn1, rn2, rn3, rn4, rn5⟩ := rnO_in hrn
      refine tk_renew Y hrn ⟨Nat.le_of_ble_eq_true rfl, Nat.le_of_ble_eq_true rfl⟩ ⟨Nat.le_refl _, Nat.le_refl _⟩ (Nat.le_of_ble_eq_true rfl) dX0_remake_39 (fun q => ?_)
      refine tw_iload_n X dX0_remake_42 rfl 0 rfl ?_
      obtain rfl := Option.some.inj hf
      exact tx_iret X hr (Nat.le_refl _) (Nat.le_refl _) (fun t b => ⟨rfl, _, _, b, Or.inr ⟨pp, kd, q, rfl, rn1, rn4, rn5, rn3, rfl, rfl⟩⟩) dX0_remake_43
