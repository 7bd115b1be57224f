/-! rows and words for walks by hand (printed by gen/mk_khrow.py) -/
set_option maxRecDepth 100000
section KWN4
variable {p : Program} {l : Launch} {e : Env} {R : Room} {s : State} {m : MethodId} {args : Array Value} {below : List Frame} {meth : Method} {c : Code} {Q : State → Prop} {D : va_G} {A : Nat → Prop} {nL ce sl : Nat} {g g' : St} {pc : Nat} {lv : List (Nat × Value)} {st : List Value} {cc : ByteArray} {K : Nat → Nat} {δ : Nat → ClassId} {sr ρ : Rf} {dy : va_W}
theorem kgX0_1_0 (X : Cx p c cc nL s args RX0 m meth D vwCl (kT δ) A) (hdg : decode cc pc = .ok (.getfield 1, 3)) (kk : TW p l e R s m args below meth c Q D vwCl A (kW K δ sr ρ dy) nL ce sl g (pc + 3) lv (.ref (K 1) :: st)) : TW p l e R s m args below meth c Q D vwCl A (kW K δ sr ρ dy) nL ce sl g pc lv (.ref (K 0) :: st) := tw_get X in_X0 0 rfl rfl 0 (by decide) q395 rfl rfl hdg kk
theorem kgX0_132_0 (X : Cx p c cc nL s args RX0 m meth D vwCl (kT δ) A) (hdg : decode cc pc = .ok (.getfield 132, 3)) (kk : TW p l e R s m args below meth c Q D vwCl A (kW K δ sr ρ dy) nL ce sl g (pc + 3) lv (.ref (K 30) :: st)) : TW p l e R s m args below meth c Q D vwCl A (kW K δ sr ρ dy) nL ce sl g pc lv (.ref (K 0) :: st) := tw_get X in_X0 0 rfl rfl 29 (by decide) q424 rfl rfl hdg kk
theorem kgX0_136_0 (X : Cx p c cc nL s args RX0 m meth D vwCl (kT δ) A) (hdg : decode cc pc = .ok (.getfield 136, 3)) (kk : TW p l e R s m args below meth c Q D vwCl A (kW K δ sr ρ dy) nL ce sl g (pc + 3) lv (.ref (K 31) :: st)) : TW p l e R s m args below meth c Q D vwCl A (kW K δ sr ρ dy) nL ce sl g pc lv (.ref (K 0) :: st) := tw_get X in_X0 0 rfl rfl 30 (by decide) q425 rfl rfl hdg kk
end KWN4
theorem kGX0_515 : GoodIn lw_all (va_wsS RX0 515 yX0_isShelf (ws_ yX0_isShelf cX0_isShelf 1 (some .boolean))) := lw_S q1193 q1194 q116 q1195
theorem kI_X0_isShelf : yX0_isShelf.cls ≠ "java/lang/invoke/MethodHandle" ∧ yX0_isShelf.cls ≠ "java/lang/invoke/VarHandle" ∧ (parseMethodDescriptor yX0_isShelf.desc).map (fun d => d.parameters.length) = some 1 := by decide +kernel
theorem kGX0_536 : GoodIn lw_all (wsV RX0 536 RX0 yX0_must (ws_ yX0_must cX0_must 3 none)) := lw_V q1206 q1208 qs48 q116 q1209
theorem kI_X0_must : yX0_must.cls = RX0 ∧ yX0_must.cls ≠ "java/lang/invoke/MethodHandle" ∧ yX0_must.cls ≠ "java/lang/invoke/VarHandle" ∧ (parseMethodDescriptor yX0_must.desc).map (fun d => d.parameters.length) = some 2 := by decide +kernel
theorem kGX0_518 : GoodIn lw_all (va_wsS RX0 518 yX0_rowOf (ws_ yX0_rowOf cX0_rowOf 2 (some (.object "java/lang/Object")))) := lw_S q1196 q1197 q116 q1198
theorem kI_X0_rowOf : yX0_rowOf.cls ≠ "java/lang/invoke/MethodHandle" ∧ yX0_rowOf.cls ≠ "java/lang/invoke/VarHandle" ∧ (parseMethodDescriptor yX0_rowOf.desc).map (fun d => d.parameters.length) = some 2 := by decide +kernel
theorem kGX0_540 : GoodIn lw_all (va_wsS RX0 540 yX0_length (ws_ yX0_length cX0_length 1 (some .int))) := lw_S q1211 q1212 q116 q1213
theorem kI_X0_length : yX0_length.cls ≠ "java/lang/invoke/MethodHandle" ∧ yX0_length.cls ≠ "java/lang/invoke/VarHandle" ∧ (parseMethodDescriptor yX0_length.desc).map (fun d => d.parameters.length) = some 1 := by decide +kernel
theorem kGX0_543 : GoodIn lw_all (va_wsS RX0 543 yX0_set (ws_ yX0_set cX0_set 3 none)) := lw_S q1219 q1220 q116 q1221
theorem kI_X0_set : yX0_set.cls ≠ "java/lang/invoke/MethodHandle" ∧ yX0_set.cls ≠ "java/lang/invoke/VarHandle" ∧ (parseMethodDescriptor yX0_set.desc).map (fun d => d.parameters.length) = some 3 := by decide +kernel
theorem kGX0_548 : GoodIn lw_all (va_wsS RX0 548 yX0_manyOf (ws_ yX0_manyOf cX0_manyOf 2 (some .int))) := lw_S q1269 q1270 q116 q1271
theorem kI_X0_manyOf : yX0_manyOf.cls ≠ "java/lang/invoke/MethodHandle" ∧ yX0_manyOf.cls ≠ "java/lang/invoke/VarHandle" ∧ (parseMethodDescriptor yX0_manyOf.desc).map (fun d => d.parameters.length) = some 2 := by decide +kernel
theorem kGX0_552 : GoodIn lw_all (wsV RX0 552 RX0 yX0_itemOf (ws_ yX0_itemOf cX0_itemOf 4 (some .int))) := lw_V q1265 q1267 qs49 q116 q1268
theorem kI_X0_itemOf : yX0_itemOf.cls = RX0 ∧ yX0_itemOf.cls ≠ "java/lang/invoke/MethodHandle" ∧ yX0_itemOf.cls ≠ "java/lang/invoke/VarHandle" ∧ (parseMethodDescriptor yX0_itemOf.desc).map (fun d => d.parameters.length) = some 3 := by decide +kernel
theorem kGX0_572 : GoodIn lw_all (wsV RX0 572 RX0 yX0_held (ws_ yX0_held cX0_held 4 (some (.object "java/lang/Object")))) := lw_V q1299 q1301 qs50 q116 q1302
theorem kI_X0_held : yX0_held.cls = RX0 ∧ yX0_held.cls ≠ "java/lang/invoke/MethodHandle" ∧ yX0_held.cls ≠ "java/lang/invoke/VarHandle" ∧ (parseMethodDescriptor yX0_held.desc).map (fun d => d.parameters.length) = some 1 := by decide +kernel
theorem kGX0_566 : GoodIn lw_all (va_wsS RX0 566 yX0_personAs (ws_ yX0_personAs cX0_personAs 2 (some (.object "HadForVoice$Person")))) := lw_S q1306 q1307 q116 q1308
theorem kI_X0_personAs : yX0_personAs.cls ≠ "java/lang/invoke/MethodHandle" ∧ yX0_personAs.cls ≠ "java/lang/invoke/VarHandle" ∧ (parseMethodDescriptor yX0_personAs.desc).map (fun d => d.parameters.length) = some 2 := by decide +kernel
theorem kGX0_575 : GoodIn lw_all (va_wsS RX0 575 yX0_takenAs (ws_ yX0_takenAs cX0_takenAs 2 (some .int))) := lw_S q1303 q1304 q116 q1305
theorem kI_X0_takenAs : yX0_takenAs.cls ≠ "java/lang/invoke/MethodHandle" ∧ yX0_takenAs.cls ≠ "java/lang/invoke/VarHandle" ∧ (parseMethodDescriptor yX0_takenAs.desc).map (fun d => d.parameters.length) = some 2 := by decide +kernel
