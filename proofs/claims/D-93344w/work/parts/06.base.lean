/-! BASE: loops and joins as pure functions; the judgement TW (the machine stands at pc, holding a world, with known locals and stack) and its rules -/
set_option maxRecDepth 100000
abbrev St : Type := Nat → Nat → Int32
def up2 (g : St) (a i : Nat) (v : Int32) : St := fun b => if b = a then upd (g a) i v else g b
def un2 {α0 α1 : Type} {ρ : Sort _} (f : α0 → α1 → ρ) : α0 × α1 → ρ := fun s => f s.1 s.2
def un3 {α0 α1 α2 : Type} {ρ : Sort _} (f : α0 → α1 → α2 → ρ) : α0 × α1 × α2 → ρ := fun s => f s.1 s.2.1 s.2.2
def un4 {α0 α1 α2 α3 : Type} {ρ : Sort _} (f : α0 → α1 → α2 → α3 → ρ) : α0 × α1 × α2 × α3 → ρ := fun s => f s.1 s.2.1 s.2.2.1 s.2.2.2
def un5 {α0 α1 α2 α3 α4 : Type} {ρ : Sort _} (f : α0 → α1 → α2 → α3 → α4 → ρ) : α0 × α1 × α2 × α3 × α4 → ρ := fun s => f s.1 s.2.1 s.2.2.1 s.2.2.2.1 s.2.2.2.2
def un6 {α0 α1 α2 α3 α4 α5 : Type} {ρ : Sort _} (f : α0 → α1 → α2 → α3 → α4 → α5 → ρ) : α0 × α1 × α2 × α3 × α4 × α5 → ρ := fun s => f s.1 s.2.1 s.2.2.1 s.2.2.2.1 s.2.2.2.2.1 s.2.2.2.2.2
def un7 {α0 α1 α2 α3 α4 α5 α6 : Type} {ρ : Sort _} (f : α0 → α1 → α2 → α3 → α4 → α5 → α6 → ρ) : α0 × α1 × α2 × α3 × α4 × α5 × α6 → ρ := fun s => f s.1 s.2.1 s.2.2.1 s.2.2.2.1 s.2.2.2.2.1 s.2.2.2.2.2.1 s.2.2.2.2.2.2
def un8 {α0 α1 α2 α3 α4 α5 α6 α7 : Type} {ρ : Sort _} (f : α0 → α1 → α2 → α3 → α4 → α5 → α6 → α7 → ρ) : α0 × α1 × α2 × α3 × α4 × α5 × α6 × α7 → ρ := fun s => f s.1 s.2.1 s.2.2.1 s.2.2.2.1 s.2.2.2.2.1 s.2.2.2.2.2.1 s.2.2.2.2.2.2.1 s.2.2.2.2.2.2.2
def un9 {α0 α1 α2 α3 α4 α5 α6 α7 α8 : Type} {ρ : Sort _} (f : α0 → α1 → α2 → α3 → α4 → α5 → α6 → α7 → α8 → ρ) : α0 × α1 × α2 × α3 × α4 × α5 × α6 × α7 × α8 → ρ := fun s => f s.1 s.2.1 s.2.2.1 s.2.2.2.1 s.2.2.2.2.1 s.2.2.2.2.2.1 s.2.2.2.2.2.2.1 s.2.2.2.2.2.2.2.1 s.2.2.2.2.2.2.2.2
def un10 {α0 α1 α2 α3 α4 α5 α6 α7 α8 α9 : Type} {ρ : Sort _} (f : α0 → α1 → α2 → α3 → α4 → α5 → α6 → α7 → α8 → α9 → ρ) : α0 × α1 × α2 × α3 × α4 × α5 × α6 × α7 × α8 × α9 → ρ := fun s => f s.1 s.2.1 s.2.2.1 s.2.2.2.1 s.2.2.2.2.1 s.2.2.2.2.2.1 s.2.2.2.2.2.2.1 s.2.2.2.2.2.2.2.1 s.2.2.2.2.2.2.2.2.1 s.2.2.2.2.2.2.2.2.2
def un11 {α0 α1 α2 α3 α4 α5 α6 α7 α8 α9 α10 : Type} {ρ : Sort _} (f : α0 → α1 → α2 → α3 → α4 → α5 → α6 → α7 → α8 → α9 → α10 → ρ) : α0 × α1 × α2 × α3 × α4 × α5 × α6 × α7 × α8 × α9 × α10 → ρ := fun s => f s.1 s.2.1 s.2.2.1 s.2.2.2.1 s.2.2.2.2.1 s.2.2.2.2.2.1 s.2.2.2.2.2.2.1 s.2.2.2.2.2.2.2.1 s.2.2.2.2.2.2.2.2.1 s.2.2.2.2.2.2.2.2.2.1 s.2.2.2.2.2.2.2.2.2.2
def un12 {α0 α1 α2 α3 α4 α5 α6 α7 α8 α9 α10 α11 : Type} {ρ : Sort _} (f : α0 → α1 → α2 → α3 → α4 → α5 → α6 → α7 → α8 → α9 → α10 → α11 → ρ) : α0 × α1 × α2 × α3 × α4 × α5 × α6 × α7 × α8 × α9 × α10 × α11 → ρ := fun s => f s.1 s.2.1 s.2.2.1 s.2.2.2.1 s.2.2.2.2.1 s.2.2.2.2.2.1 s.2.2.2.2.2.2.1 s.2.2.2.2.2.2.2.1 s.2.2.2.2.2.2.2.2.1 s.2.2.2.2.2.2.2.2.2.1 s.2.2.2.2.2.2.2.2.2.2.1 s.2.2.2.2.2.2.2.2.2.2.2
/-- a read of an array of n places -/
def rd (f : Nat → Int32) (n : Nat) (i : Int32) : Option Int32 := if i < 0 ∨ n ≤ i.toNatClampNeg then none else some (f i.toNatClampNeg)
/-- a write -/
def wr (g : St) (a n : Nat) (i v : Int32) : Option St := if i < 0 ∨ n ≤ i.toNatClampNeg then none else some (up2 g a i.toNatClampNeg v)
/-- a field's write -/
def pf (g : St) (a k : Nat) (v : Int32) : Option St := some (up2 g a k v)
def upA (g : St) (a : Nat) (f : Nat → Int32) : St := fun b => if b = a then f else g b
/-- a row copied into a row -/
def cpy (g : St) (sa sn da dn : Nat) (sp dp n : Int32) : Option St := if sp < 0 ∨ dp < 0 ∨ n < 0 ∨ sn < sp.toNatClampNeg + n.toNatClampNeg ∨ dn < dp.toNatClampNeg + n.toNatClampNeg then none else some (upA g da (va_cpy (g sa) (g da) sp.toNatClampNeg dp.toNatClampNeg n.toNatClampNeg))
theorem cpy_in {g g' : St} {sa sn da dn : Nat} {sp dp n : Int32} (h : cpy g sa sn da dn sp dp n = some g') : ¬ (sp < 0 ∨ dp < 0 ∨ n < 0 ∨ sn < sp.toNatClampNeg + n.toNatClampNeg ∨ dn < dp.toNatClampNeg + n.toNatClampNeg) ∧ upA g da (va_cpy (g sa) (g da) sp.toNatClampNeg dp.toNatClampNeg n.toNatClampNeg) = g' := by
  unfold cpy at h
  split at h
  · cases h
  · next q => exact ⟨q, Option.some.inj h⟩
/-- a place in a row of n -/
def ixo (n : Nat) (i : Int32) : Option Nat := if i < 0 ∨ n ≤ i.toNatClampNeg then none else some i.toNatClampNeg
theorem ixo_in {n : Nat} {i : Int32} {k : Nat} (h : ixo n i = some k) : vp_in i n ∧ i.toNatClampNeg = k ∧ k < n := by
  unfold ixo at h
  split at h
  · cases h
  · next q => exact ⟨q, Option.some.inj h, by rw [← Option.some.inj h]; exact Nat.not_le.mp fun z => q (Or.inr z)⟩
def dv (x y : Int32) : Option Int32 := if y = 0 then none else some (x / y)
def rm (x y : Int32) : Option Int32 := if y = 0 then none else some (x - x / y * y)
def lpN {L T : Type} (body : L → Option (L ⊕ T)) : Nat → L → Option T
  | 0, _ => none
  | n + 1, s => match body s with
    | none => none
    | some (.inl s') => lpN body n s'
    | some (.inr t) => some t
theorem lpN_up {L T : Type} {body : L → Option (L ⊕ T)} : ∀ (n : Nat) (s : L) (t : T), lpN body n s = some t → ∀ k, lpN body (n + k) s = some t
  | 0, s, t, h, k => by cases h
  | n + 1, s, t, h, k => by
    have e : n + 1 + k = (n + k) + 1 := by omega
    rw [e]
    unfold lpN at h ⊢
    split at h
    · cases h
    · next s' hs => simpa [hs] using lpN_up n s' t h k
    · next t' hs => simpa [hs] using h
theorem lpN_one {L T : Type} {body : L → Option (L ⊕ T)} {n m : Nat} {s : L} {t t' : T} (h : lpN body n s = some t) (h' : lpN body m s = some t') : t = t' := by
  have a := lpN_up n s t h m
  have b := lpN_up m s t' h' n
  rw [Nat.add_comm m n, a] at b
  exact Option.some.inj b
noncomputable def iter {L T : Type} (body : L → Option (L ⊕ T)) (s : L) : Option T :=
  @dite _ (∃ (n : Nat) (t : T), lpN body n s = some t) (Classical.propDecidable _) (fun h => some (Classical.choose (Classical.choose_spec h))) (fun _ => none)
theorem iter_ex {L T : Type} {body : L → Option (L ⊕ T)} {s : L} {t : T} (h : iter body s = some t) : ∃ n, lpN body n s = some t := by
  unfold iter at h
  split at h
  · next q =>
    have e := Option.some.inj h
    exact ⟨Classical.choose q, by rw [← e]; exact Classical.choose_spec (Classical.choose_spec q)⟩
  · cases h
theorem iter_of {L T : Type} {body : L → Option (L ⊕ T)} {n : Nat} {s : L} {t : T} (h : lpN body n s = some t) : iter body s = some t := by
  have q : ∃ (n : Nat) (t : T), lpN body n s = some t := ⟨n, t, h⟩
  unfold iter
  rw [dif_pos q]
  exact congrArg some (lpN_one (Classical.choose_spec (Classical.choose_spec q)) h)
theorem iter_step {L T : Type} {body : L → Option (L ⊕ T)} {s s' : L} (h : body s = some (.inl s')) : iter body s = iter body s' := by
  have key : ∀ t, iter body s = some t ↔ iter body s' = some t := by
    intro t
    constructor
    · intro q
      obtain ⟨n, hn⟩ := iter_ex q
      cases n with
      | zero => cases hn
      | succ n =>
        unfold lpN at hn
        rw [h] at hn
        exact iter_of hn
    · intro q
      obtain ⟨n, hn⟩ := iter_ex q
      refine iter_of (n := n + 1) ?_
      unfold lpN
      rw [h]
      exact hn
  cases e : iter body s' with
  | some t => exact (key t).mpr e
  | none =>
    cases e2 : iter body s with
    | none => rfl
    | some t => rw [(key t).mp e2] at e; cases e
theorem iter_done {L T : Type} {body : L → Option (L ⊕ T)} {s : L} {t : T} (h : body s = some (.inr t)) : iter body s = some t := by
  refine iter_of (n := 1) ?_
  unfold lpN
  rw [h]
/-- the walk of a loop -/
theorem iter_walk {L T : Type} {body : L → Option (L ⊕ T)} {P : L → Prop} {K : T → Prop} (step : ∀ s z, body s = some z → Sum.elim P K z → P s) : ∀ s t, iter body s = some t → K t → P s := by
  intro s t h hK
  obtain ⟨n, hn⟩ := iter_ex h
  clear h
  induction n generalizing s with
  | zero => cases hn
  | succ n ih =>
    unfold lpN at hn
    split at hn
    · cases hn
    · next s' hs => exact step s _ hs (ih s' hn)
    · next t' hs =>
      cases hn
      exact step s _ hs hK
/-- a loop ends, by a measure: what its last turn gives -/
theorem iter_meas {L T : Type} {body : L → Option (L ⊕ T)} (I : L → Prop) (μ : L → Nat) (Q : T → Prop) (step : ∀ s, I s → ∃ z, body s = some z ∧ Sum.elim (fun s' => I s' ∧ μ s' < μ s) Q z) : ∀ s, I s → ∃ t, iter body s = some t ∧ Q t := by
  have key : ∀ (n : Nat) (s : L), μ s < n → I s → ∃ t, iter body s = some t ∧ Q t := by
    intro n
    induction n with
    | zero => intro s h; omega
    | succ n ih =>
      intro s hn hs
      obtain ⟨z, h1, h2⟩ := step s hs
      cases z with
      | inl s' =>
        obtain ⟨t, a, b⟩ := ih s' (by have := h2.2; omega) h2.1
        exact ⟨t, by rw [iter_step h1]; exact a, b⟩
      | inr t => exact ⟨t, iter_done h1, h2⟩
  intro s hs
  exact key _ s (Nat.lt_succ_self _) hs
/-- a join that not all ways come to -/
def jn {S T : Type} (c : Option (S ⊕ T)) (J : S → Option T) : Option T := c.bind (fun z => Sum.elim J some z)
theorem jn_some {S T : Type} {c : Option (S ⊕ T)} {J : S → Option T} {z : T} (h : jn c J = some z) : ∃ zz, c = some zz ∧ Sum.elim (fun s => J s = some z) (fun t => some t = some z) zz := by
  unfold jn at h
  cases c with
  | none => cases h
  | some zz =>
    refine ⟨zz, rfl, ?_⟩
    cases zz with
    | inl s => exact h
    | inr t => exact h
theorem bnd {α β : Type} {c : Option α} {k : α → Option β} {z : β} (h : c.bind k = some z) : ∃ x, c = some x ∧ k x = some z := by
  cases c with
  | none => cases h
  | some x => exact ⟨x, rfl, h⟩
theorem leafL {S T : Type} {P : S → Prop} {K : T → Prop} {e : S} {zz : S ⊕ T} (h : some (Sum.inl e) = some zz) (q : Sum.elim P K zz) : P e := by
  cases h
  exact q
theorem leafR {S T : Type} {P : S → Prop} {K : T → Prop} {e : T} {zz : S ⊕ T} (h : some (Sum.inr e) = some zz) (q : Sum.elim P K zz) : K e := by
  cases h
  exact q
theorem rd_in {f : Nat → Int32} {n : Nat} {i x : Int32} (h : rd f n i = some x) : vp_in i n ∧ f i.toNatClampNeg = x := by
  unfold rd at h
  split at h
  · cases h
  · next q => exact ⟨q, Option.some.inj h⟩
theorem wr_in {g g' : St} {a n : Nat} {i v : Int32} (h : wr g a n i v = some g') : vp_in i n ∧ up2 g a i.toNatClampNeg v = g' := by
  unfold wr at h
  split at h
  · cases h
  · next q => exact ⟨q, Option.some.inj h⟩
theorem it_walk {L T : Type} {body : L → Option (L ⊕ T)} {P : L → Prop} {s0 : L} {z : T} (h : iter body s0 = some z) (step : ∀ s zz, body s = some zz → Sum.elim P (fun t => some t = some z) zz → P s) : P s0 := iter_walk step s0 z h rfl
theorem jn_walk {S T : Type} {c : Option (S ⊕ T)} {J : S → Option T} {z : T} {P : S → Prop} {G : Prop} (h : jn c J = some z) (hJ : ∀ s, J s = some z → P s) (hc : ∀ zz, c = some zz → Sum.elim P (fun t => some t = some z) zz → G) : G := by
  obtain ⟨zz, h1, h2⟩ := jn_some h
  refine hc zz h1 ?_
  cases zz with
  | inl s => exact hJ s h2
  | inr t => exact h2
theorem bj_walk {S T : Type} {c : Option S} {J : S → Option T} {z : T} {P : S → Prop} {G : Prop} (h : Option.bind c J = some z) (hJ : ∀ s, J s = some z → P s) (hc : ∀ zz, c = some zz → (∀ s, some s = some zz → P s) → G) : G := by
  obtain ⟨zz, h1, h2⟩ := bnd h
  exact hc zz h1 (fun s e => by cases e; exact hJ _ h2)
theorem prj1 {α β : Type} {a : α} {b : β} {z : α × β} (h : some (a, b) = some z) : a = z.1 := by cases h; rfl
theorem prj2 {α β : Type} {a : α} {b : β} {z : α × β} (h : some (a, b) = some z) : b = z.2 := by cases h; rfl
theorem dv_in {x y r : Int32} (h : dv x y = some r) : ¬ y = 0 ∧ x / y = r := by
  unfold dv at h
  split at h
  · cases h
  · next q => exact ⟨q, Option.some.inj h⟩
theorem rm_in {x y r : Int32} (h : rm x y = some r) : ¬ y = 0 ∧ x - x / y * y = r := by
  unfold rm at h
  split at h
  · cases h
  · next q => exact ⟨q, Option.some.inj h⟩
def zok (v : Int32) : Option Unit := if v = 0 ∨ v = 1 then some () else none
def zb (v : Int32) : Prop := v = 0 ∨ v = 1
theorem zok_in {v : Int32} {u : Unit} (h : zok v = some u) : zb v := by
  unfold zok at h
  split at h
  · next q => exact q
  · cases h
theorem zb_nar {v : Int32} (h : zb v) : narrow .boolean (.int v) = .int v := by rcases h with rfl | rfl <;> rfl
theorem zb_fit {v : Int32} (h : zb v) : fits .boolean (.int v) = true := by rcases h with rfl | rfl <;> rfl
theorem mx_code : Cond.code Lib.Math.max.name Lib.Math.max.code 2 (some .int) ∈ lw_all := q599
theorem mx_ini : Cond.initialized "java/lang/Math" ∈ lw_all := q133
section TWD
def TW {σ : Type} (p : Program) (l : Launch) (e : Env) (R : Room) (s : State) (m : MethodId) (args : Array Value) (below : List Frame) (meth : Method) (c : Code) (Q : State → Prop) (D : va_G) (cl : List vw_C) (A : Nat → Prop) (Wd : σ → va_W) (nL ce sl : Nat) (g : σ) (pc : Nat) (lv : List (Nat × Value)) (st : List Value) : Prop :=
  ∀ (H : Heap) (locs : List Loc) (ls : Array Slot), lv_has ls nL lv → va_P D cl (Wd g) H → va_D A (Wd g) → va_S A s.heap H locs → W p l e R s m args below meth c H locs ce sl Q (F0 m pc ls st)
def Cx (p : Program) (c : Code) (cc : ByteArray) (nL : Nat) (s : State) (args : Array Value) (own : String) (m : MethodId) (meth : Method) (D : va_G) (cl : List vw_C) (tys : List (ClassId × FieldType)) (A : Nat → Prop) : Prop :=
  CallFix p m c cc nL s args lw_all own ∧ va_K D cl tys s ∧ (∀ q, s.heap.size ≤ q → A q) ∧ meth.locks = false ∧ NR A s
variable {σ : Type} {p : Program} {l : Launch} {e : Env} {R : Room} {s : State} {m : MethodId} {args : Array Value} {below : List Frame} {meth : Method} {c : Code} {Q : State → Prop} {D : va_G} {cl : List vw_C} {A : Nat → Prop} {Wd : σ → va_W} {nL ce sl : Nat} {g : σ} {pc : Nat} {lv : List (Nat × Value)} {st : List Value} {cc : ByteArray} {own : String} {tys : List (ClassId × FieldType)}
theorem Cx.hx (X : Cx p c cc nL s args own m meth D cl tys A) : p.tables.exec = Jvm.exec := X.1.1
theorem Cx.hb (X : Cx p c cc nL s args own m meth D cl tys A) : c.code = cc := X.1.2.1
theorem Cx.hml (X : Cx p c cc nL s args own m meth D cl tys A) : c.maxLocals = nL := X.1.2.2.1
theorem Cx.hown (X : Cx p c cc nL s args own m meth D cl tys A) : s.vm.findClass own = some m.cls := X.1.2.2.2.1
theorem Cx.hts (X : Cx p c cc nL s args own m meth D cl tys A) : ∀ w ∈ lw_all, w.before args s = true := X.1.2.2.2.2
theorem Cx.hK (X : Cx p c cc nL s args own m meth D cl tys A) : va_K D cl tys s := X.2.1
theorem Cx.hA (X : Cx p c cc nL s args own m meth D cl tys A) : ∀ q, s.heap.size ≤ q → A q := X.2.2.1
theorem Cx.hlocks (X : Cx p c cc nL s args own m meth D cl tys A) : meth.locks = false := X.2.2.2.1
theorem Cx.hN (X : Cx p c cc nL s args own m meth D cl tys A) : NR A s := X.2.2.2.2
theorem tw_iconst (X : Cx p c cc nL s args own m meth D cl tys A) {n : Int} {v : Int32} (hdg : decode cc pc = .ok (.iconst n, 1)) (hv : Int32.ofInt n = v) (k : TW p l e R s m args below meth c Q D cl A Wd nL ce sl g (pc + 1) lv (.int v :: st)) : TW p l e R s m args below meth c Q D cl A Wd nL ce sl g pc lv st :=
  fun H locs ls hl hP hD hS => lv_iconst X.hx X.hb hdg hv (k H locs ls hl hP hD hS)
theorem tw_bipush (X : Cx p c cc nL s args own m meth D cl tys A) {n : Int} {v : Int32} (hdg : decode cc pc = .ok (.bipush n, 2)) (hv : (Int8.ofInt n).toInt32 = v) (k : TW p l e R s m args below meth c Q D cl A Wd nL ce sl g (pc + 2) lv (.int v :: st)) : TW p l e R s m args below meth c Q D cl A Wd nL ce sl g pc lv st :=
  fun H locs ls hl hP hD hS => lv_bipush X.hx X.hb hdg hv (k H locs ls hl hP hD hS)
theorem tw_sipush (X : Cx p c cc nL s args own m meth D cl tys A) {n : Int} {v : Int32} (hdg : decode cc pc = .ok (.sipush n, 3)) (hv : (Int16.ofInt n).toInt32 = v) (k : TW p l e R s m args below meth c Q D cl A Wd nL ce sl g (pc + 3) lv (.int v :: st)) : TW p l e R s m args below meth c Q D cl A Wd nL ce sl g pc lv st :=
  fun H locs ls hl hP hD hS => lv_sipush X.hx X.hb hdg hv (k H locs ls hl hP hD hS)
theorem tw_lconst (X : Cx p c cc nL s args own m meth D cl tys A) {n : Fin 2} {v : Int64} (hdg : decode cc pc = .ok (.lconst n, 1)) (hv : Int64.ofNat (n : Nat) = v) (k : TW p l e R s m args below meth c Q D cl A Wd nL ce sl g (pc + 1) lv (.long v :: st)) : TW p l e R s m args below meth c Q D cl A Wd nL ce sl g pc lv st :=
  fun H locs ls hl hP hD hS => lv_lconst X.hx X.hb hdg hv (k H locs ls hl hP hD hS)
theorem tw_iload_n (X : Cx p c cc nL s args own m meth D cl tys A) {k0 : Fin 4} {i : Nat} {x : Int32} (hdg : decode cc pc = .ok (.iload_n k0, 1)) (hi : (k0 : Nat) = i) (q : Nat) (hq : lv[q]? = some (i, .int x)) (k : TW p l e R s m args below meth c Q D cl A Wd nL ce sl g (pc + 1) lv (.int x :: st)) : TW p l e R s m args below meth c Q D cl A Wd nL ce sl g pc lv st :=
  fun H locs ls hl hP hD hS => lv_iload_n X.hx X.hb hdg hi (lv_at hl q hq) (k H locs ls hl hP hD hS)
theorem tw_iload (X : Cx p c cc nL s args own m meth D cl tys A) {i : Nat} {x : Int32} (hdg : decode cc pc = .ok (.iload i, 2)) (q : Nat) (hq : lv[q]? = some (i, .int x)) (k : TW p l e R s m args below meth c Q D cl A Wd nL ce sl g (pc + 2) lv (.int x :: st)) : TW p l e R s m args below meth c Q D cl A Wd nL ce sl g pc lv st :=
  fun H locs ls hl hP hD hS => lv_iload X.hx X.hb hdg (lv_at hl q hq) (k H locs ls hl hP hD hS)
theorem tw_lload_n (X : Cx p c cc nL s args own m meth D cl tys A) {k0 : Fin 4} {i : Nat} {x : Int64} (hdg : decode cc pc = .ok (.lload_n k0, 1)) (hi : (k0 : Nat) = i) (q : Nat) (hq : lv[q]? = some (i, .long x)) (k : TW p l e R s m args below meth c Q D cl A Wd nL ce sl g (pc + 1) lv (.long x :: st)) : TW p l e R s m args below meth c Q D cl A Wd nL ce sl g pc lv st :=
  fun H locs ls hl hP hD hS => lv_lload_n X.hx X.hb hdg hi (lv_at hl q hq) (k H locs ls hl hP hD hS)
theorem tw_lload (X : Cx p c cc nL s args own m meth D cl tys A) {i : Nat} {x : Int64} (hdg : decode cc pc = .ok (.lload i, 2)) (q : Nat) (hq : lv[q]? = some (i, .long x)) (k : TW p l e R s m args below meth c Q D cl A Wd nL ce sl g (pc + 2) lv (.long x :: st)) : TW p l e R s m args below meth c Q D cl A Wd nL ce sl g pc lv st :=
  fun H locs ls hl hP hD hS => lv_lload X.hx X.hb hdg (lv_at hl q hq) (k H locs ls hl hP hD hS)
theorem tw_aload_n (X : Cx p c cc nL s args own m meth D cl tys A) {k0 : Fin 4} {i : Nat} {x : Nat} (hdg : decode cc pc = .ok (.aload_n k0, 1)) (hi : (k0 : Nat) = i) (q : Nat) (hq : lv[q]? = some (i, .ref x)) (k : TW p l e R s m args below meth c Q D cl A Wd nL ce sl g (pc + 1) lv (.ref x :: st)) : TW p l e R s m args below meth c Q D cl A Wd nL ce sl g pc lv st :=
  fun H locs ls hl hP hD hS => lv_aload_n X.hx X.hb hdg hi (lv_at hl q hq) (k H locs ls hl hP hD hS)
theorem tw_aload (X : Cx p c cc nL s args own m meth D cl tys A) {i : Nat} {x : Nat} (hdg : decode cc pc = .ok (.aload i, 2)) (q : Nat) (hq : lv[q]? = some (i, .ref x)) (k : TW p l e R s m args below meth c Q D cl A Wd nL ce sl g (pc + 2) lv (.ref x :: st)) : TW p l e R s m args below meth c Q D cl A Wd nL ce sl g pc lv st :=
  fun H locs ls hl hP hD hS => lv_aload X.hx X.hb hdg (lv_at hl q hq) (k H locs ls hl hP hD hS)
theorem tw_iadd (X : Cx p c cc nL s args own m meth D cl tys A) {x y : Int32} (hdg : decode cc pc = .ok (.iadd, 1)) (k : TW p l e R s m args below meth c Q D cl A Wd nL ce sl g (pc + 1) lv (.int (x + y) :: st)) : TW p l e R s m args below meth c Q D cl A Wd nL ce sl g pc lv (.int y :: .int x :: st) :=
  fun H locs ls hl hP hD hS => lv_iadd X.hx X.hb hdg (k H locs ls hl hP hD hS)
theorem tw_isub (X : Cx p c cc nL s args own m meth D cl tys A) {x y : Int32} (hdg : decode cc pc = .ok (.isub, 1)) (k : TW p l e R s m args below meth c Q D cl A Wd nL ce sl g (pc + 1) lv (.int (x - y) :: st)) : TW p l e R s m args below meth c Q D cl A Wd nL ce sl g pc lv (.int y :: .int x :: st) :=
  fun H locs ls hl hP hD hS => lv_isub X.hx X.hb hdg (k H locs ls hl hP hD hS)
theorem tw_imul (X : Cx p c cc nL s args own m meth D cl tys A) {x y : Int32} (hdg : decode cc pc = .ok (.imul, 1)) (k : TW p l e R s m args below meth c Q D cl A Wd nL ce sl g (pc + 1) lv (.int (x * y) :: st)) : TW p l e R s m args below meth c Q D cl A Wd nL ce sl g pc lv (.int y :: .int x :: st) :=
  fun H locs ls hl hP hD hS => lv_imul X.hx X.hb hdg (k H locs ls hl hP hD hS)
theorem tw_iand (X : Cx p c cc nL s args own m meth D cl tys A) {x y : Int32} (hdg : decode cc pc = .ok (.iand, 1)) (k : TW p l e R s m args below meth c Q D cl A Wd nL ce sl g (pc + 1) lv (.int (x &&& y) :: st)) : TW p l e R s m args below meth c Q D cl A Wd nL ce sl g pc lv (.int y :: .int x :: st) :=
  fun H locs ls hl hP hD hS => lv_iand X.hx X.hb hdg (k H locs ls hl hP hD hS)
theorem tw_ior (X : Cx p c cc nL s args own m meth D cl tys A) {x y : Int32} (hdg : decode cc pc = .ok (.ior, 1)) (k : TW p l e R s m args below meth c Q D cl A Wd nL ce sl g (pc + 1) lv (.int (x ||| y) :: st)) : TW p l e R s m args below meth c Q D cl A Wd nL ce sl g pc lv (.int y :: .int x :: st) :=
  fun H locs ls hl hP hD hS => lv_ior X.hx X.hb hdg (k H locs ls hl hP hD hS)
theorem tw_ixor (X : Cx p c cc nL s args own m meth D cl tys A) {x y : Int32} (hdg : decode cc pc = .ok (.ixor, 1)) (k : TW p l e R s m args below meth c Q D cl A Wd nL ce sl g (pc + 1) lv (.int (x ^^^ y) :: st)) : TW p l e R s m args below meth c Q D cl A Wd nL ce sl g pc lv (.int y :: .int x :: st) :=
  fun H locs ls hl hP hD hS => lv_ixor X.hx X.hb hdg (k H locs ls hl hP hD hS)
theorem tw_ishl (X : Cx p c cc nL s args own m meth D cl tys A) {x y : Int32} (hdg : decode cc pc = .ok (.ishl, 1)) (k : TW p l e R s m args below meth c Q D cl A Wd nL ce sl g (pc + 1) lv (.int (x <<< (y &&& 31)) :: st)) : TW p l e R s m args below meth c Q D cl A Wd nL ce sl g pc lv (.int y :: .int x :: st) :=
  fun H locs ls hl hP hD hS => lv_ishl X.hx X.hb hdg (k H locs ls hl hP hD hS)
theorem tw_ishr (X : Cx p c cc nL s args own m meth D cl tys A) {x y : Int32} (hdg : decode cc pc = .ok (.ishr, 1)) (k : TW p l e R s m args below meth c Q D cl A Wd nL ce sl g (pc + 1) lv (.int (x >>> (y &&& 31)) :: st)) : TW p l e R s m args below meth c Q D cl A Wd nL ce sl g pc lv (.int y :: .int x :: st) :=
  fun H locs ls hl hP hD hS => lv_ishr X.hx X.hb hdg (k H locs ls hl hP hD hS)
theorem tw_ladd (X : Cx p c cc nL s args own m meth D cl tys A) {x y : Int64} (hdg : decode cc pc = .ok (.ladd, 1)) (k : TW p l e R s m args below meth c Q D cl A Wd nL ce sl g (pc + 1) lv (.long (x + y) :: st)) : TW p l e R s m args below meth c Q D cl A Wd nL ce sl g pc lv (.long y :: .long x :: st) :=
  fun H locs ls hl hP hD hS => lv_ladd X.hx X.hb hdg (k H locs ls hl hP hD hS)
theorem tw_lsub (X : Cx p c cc nL s args own m meth D cl tys A) {x y : Int64} (hdg : decode cc pc = .ok (.lsub, 1)) (k : TW p l e R s m args below meth c Q D cl A Wd nL ce sl g (pc + 1) lv (.long (x - y) :: st)) : TW p l e R s m args below meth c Q D cl A Wd nL ce sl g pc lv (.long y :: .long x :: st) :=
  fun H locs ls hl hP hD hS => lv_lsub X.hx X.hb hdg (k H locs ls hl hP hD hS)
theorem tw_lmul (X : Cx p c cc nL s args own m meth D cl tys A) {x y : Int64} (hdg : decode cc pc = .ok (.lmul, 1)) (k : TW p l e R s m args below meth c Q D cl A Wd nL ce sl g (pc + 1) lv (.long (x * y) :: st)) : TW p l e R s m args below meth c Q D cl A Wd nL ce sl g pc lv (.long y :: .long x :: st) :=
  fun H locs ls hl hP hD hS => lv_lmul X.hx X.hb hdg (k H locs ls hl hP hD hS)
theorem tw_land (X : Cx p c cc nL s args own m meth D cl tys A) {x y : Int64} (hdg : decode cc pc = .ok (.land, 1)) (k : TW p l e R s m args below meth c Q D cl A Wd nL ce sl g (pc + 1) lv (.long (x &&& y) :: st)) : TW p l e R s m args below meth c Q D cl A Wd nL ce sl g pc lv (.long y :: .long x :: st) :=
  fun H locs ls hl hP hD hS => lv_land X.hx X.hb hdg (k H locs ls hl hP hD hS)
theorem tw_lor (X : Cx p c cc nL s args own m meth D cl tys A) {x y : Int64} (hdg : decode cc pc = .ok (.lor, 1)) (k : TW p l e R s m args below meth c Q D cl A Wd nL ce sl g (pc + 1) lv (.long (x ||| y) :: st)) : TW p l e R s m args below meth c Q D cl A Wd nL ce sl g pc lv (.long y :: .long x :: st) :=
  fun H locs ls hl hP hD hS => lv_lor X.hx X.hb hdg (k H locs ls hl hP hD hS)
theorem tw_lxor (X : Cx p c cc nL s args own m meth D cl tys A) {x y : Int64} (hdg : decode cc pc = .ok (.lxor, 1)) (k : TW p l e R s m args below meth c Q D cl A Wd nL ce sl g (pc + 1) lv (.long (x ^^^ y) :: st)) : TW p l e R s m args below meth c Q D cl A Wd nL ce sl g pc lv (.long y :: .long x :: st) :=
  fun H locs ls hl hP hD hS => lv_lxor X.hx X.hb hdg (k H locs ls hl hP hD hS)
theorem tw_iushr (X : Cx p c cc nL s args own m meth D cl tys A) {x y : Int32} (hdg : decode cc pc = .ok (.iushr, 1)) (k : TW p l e R s m args below meth c Q D cl A Wd nL ce sl g (pc + 1) lv (.int ((x.toUInt32 >>> (y.toUInt32 &&& Int32.toUInt32 31)).toInt32) :: st)) : TW p l e R s m args below meth c Q D cl A Wd nL ce sl g pc lv (.int y :: .int x :: st) :=
  fun H locs ls hl hP hD hS => lv_iushr X.hx X.hb hdg rfl (k H locs ls hl hP hD hS)
theorem tw_lshr (X : Cx p c cc nL s args own m meth D cl tys A) {x : Int64} {y : Int32} (hdg : decode cc pc = .ok (.lshr, 1)) (k : TW p l e R s m args below meth c Q D cl A Wd nL ce sl g (pc + 1) lv (.long (x >>> (y.toInt64 &&& 63)) :: st)) : TW p l e R s m args below meth c Q D cl A Wd nL ce sl g pc lv (.int y :: .long x :: st) :=
  fun H locs ls hl hP hD hS => lv_lshr X.hx X.hb hdg rfl (k H locs ls hl hP hD hS)
theorem tw_lshl (X : Cx p c cc nL s args own m meth D cl tys A) {x : Int64} {y : Int32} (hdg : decode cc pc = .ok (.lshl, 1)) (k : TW p l e R s m args below meth c Q D cl A Wd nL ce sl g (pc + 1) lv (.long (x <<< (y.toInt64 &&& 63)) :: st)) : TW p l e R s m args below meth c Q D cl A Wd nL ce sl g pc lv (.int y :: .long x :: st) :=
  fun H locs ls hl hP hD hS => lv_lshl X.hx X.hb hdg rfl (k H locs ls hl hP hD hS)
theorem tw_ineg (X : Cx p c cc nL s args own m meth D cl tys A) {x : Int32} (hdg : decode cc pc = .ok (.ineg, 1)) (k : TW p l e R s m args below meth c Q D cl A Wd nL ce sl g (pc + 1) lv (.int (-x) :: st)) : TW p l e R s m args below meth c Q D cl A Wd nL ce sl g pc lv (.int x :: st) :=
  fun H locs ls hl hP hD hS => lv_ineg X.hx X.hb hdg (k H locs ls hl hP hD hS)
theorem tw_i2l (X : Cx p c cc nL s args own m meth D cl tys A) {x : Int32} (hdg : decode cc pc = .ok (.i2l, 1)) (k : TW p l e R s m args below meth c Q D cl A Wd nL ce sl g (pc + 1) lv (.long (x.toInt64) :: st)) : TW p l e R s m args below meth c Q D cl A Wd nL ce sl g pc lv (.int x :: st) :=
  fun H locs ls hl hP hD hS => lv_i2l X.hx X.hb hdg rfl (k H locs ls hl hP hD hS)
theorem tw_l2i (X : Cx p c cc nL s args own m meth D cl tys A) {x : Int64} (hdg : decode cc pc = .ok (.l2i, 1)) (k : TW p l e R s m args below meth c Q D cl A Wd nL ce sl g (pc + 1) lv (.int (x.toInt32) :: st)) : TW p l e R s m args below meth c Q D cl A Wd nL ce sl g pc lv (.long x :: st) :=
  fun H locs ls hl hP hD hS => lv_l2i X.hx X.hb hdg rfl (k H locs ls hl hP hD hS)
theorem tw_i2b (X : Cx p c cc nL s args own m meth D cl tys A) {x : Int32} (hdg : decode cc pc = .ok (.i2b, 1)) (k : TW p l e R s m args below meth c Q D cl A Wd nL ce sl g (pc + 1) lv (.int (x.toInt8.toInt32) :: st)) : TW p l e R s m args below meth c Q D cl A Wd nL ce sl g pc lv (.int x :: st) :=
  fun H locs ls hl hP hD hS => lv_i2b X.hx X.hb hdg rfl (k H locs ls hl hP hD hS)
theorem tw_i2s (X : Cx p c cc nL s args own m meth D cl tys A) {x : Int32} (hdg : decode cc pc = .ok (.i2s, 1)) (k : TW p l e R s m args below meth c Q D cl A Wd nL ce sl g (pc + 1) lv (.int (x.toInt16.toInt32) :: st)) : TW p l e R s m args below meth c Q D cl A Wd nL ce sl g pc lv (.int x :: st) :=
  fun H locs ls hl hP hD hS => lv_i2s X.hx X.hb hdg rfl (k H locs ls hl hP hD hS)
theorem tw_i2c (X : Cx p c cc nL s args own m meth D cl tys A) {x : Int32} (hdg : decode cc pc = .ok (.i2c, 1)) (k : TW p l e R s m args below meth c Q D cl A Wd nL ce sl g (pc + 1) lv (.int ((x.toUInt32 % 65536).toInt32) :: st)) : TW p l e R s m args below meth c Q D cl A Wd nL ce sl g pc lv (.int x :: st) :=
  fun H locs ls hl hP hD hS => lv_i2c X.hx X.hb hdg rfl (k H locs ls hl hP hD hS)
theorem tw_idiv (X : Cx p c cc nL s args own m meth D cl tys A) {x y : Int32} (hdg : decode cc pc = .ok (.idiv, 1)) (hne : ¬ y = 0) (k : TW p l e R s m args below meth c Q D cl A Wd nL ce sl g (pc + 1) lv (.int (x / y) :: st)) : TW p l e R s m args below meth c Q D cl A Wd nL ce sl g pc lv (.int y :: .int x :: st) :=
  fun H locs ls hl hP hD hS => lv_idiv X.hx X.hb hdg hne (k H locs ls hl hP hD hS)
theorem tw_irem (X : Cx p c cc nL s args own m meth D cl tys A) {x y : Int32} (hdg : decode cc pc = .ok (.irem, 1)) (hne : ¬ y = 0) (k : TW p l e R s m args below meth c Q D cl A Wd nL ce sl g (pc + 1) lv (.int (x - x / y * y) :: st)) : TW p l e R s m args below meth c Q D cl A Wd nL ce sl g pc lv (.int y :: .int x :: st) :=
  fun H locs ls hl hP hD hS => lv_irem X.hx X.hb hdg hne (k H locs ls hl hP hD hS)
theorem tw_dup (X : Cx p c cc nL s args own m meth D cl tys A) {va : Value} (hdg : decode cc pc = .ok (.dup, 1)) (hva : va.category = 1) (k : TW p l e R s m args below meth c Q D cl A Wd nL ce sl g (pc + 1) lv (va :: va :: st)) : TW p l e R s m args below meth c Q D cl A Wd nL ce sl g pc lv (va :: st) :=
  fun H locs ls hl hP hD hS => lv_dup X.hx X.hb hdg hva (k H locs ls hl hP hD hS)
theorem tw_dup_x1 (X : Cx p c cc nL s args own m meth D cl tys A) {va vb : Value} (hdg : decode cc pc = .ok (.dup_x1, 1)) (hva : va.category = 1) (hvb : vb.category = 1) (k : TW p l e R s m args below meth c Q D cl A Wd nL ce sl g (pc + 1) lv (va :: vb :: va :: st)) : TW p l e R s m args below meth c Q D cl A Wd nL ce sl g pc lv (va :: vb :: st) :=
  fun H locs ls hl hP hD hS => lv_dup_x1 X.hx X.hb hdg hva hvb (k H locs ls hl hP hD hS)
theorem tw_dup2_11 (X : Cx p c cc nL s args own m meth D cl tys A) {va vb : Value} (hdg : decode cc pc = .ok (.dup2, 1)) (hva : va.category = 1) (hvb : vb.category = 1) (k : TW p l e R s m args below meth c Q D cl A Wd nL ce sl g (pc + 1) lv (va :: vb :: va :: vb :: st)) : TW p l e R s m args below meth c Q D cl A Wd nL ce sl g pc lv (va :: vb :: st) :=
  fun H locs ls hl hP hD hS => lv_dup2_11 X.hx X.hb hdg hva hvb (k H locs ls hl hP hD hS)
theorem tw_pop (X : Cx p c cc nL s args own m meth D cl tys A) {va : Value} (hdg : decode cc pc = .ok (.pop, 1)) (hva : va.category = 1) (k : TW p l e R s m args below meth c Q D cl A Wd nL ce sl g (pc + 1) lv st) : TW p l e R s m args below meth c Q D cl A Wd nL ce sl g pc lv (va :: st) :=
  fun H locs ls hl hP hD hS => lv_pop X.hx X.hb hdg hva (k H locs ls hl hP hD hS)
theorem tw_lcmp (X : Cx p c cc nL s args own m meth D cl tys A) {x y : Int64} (hdg : decode cc pc = .ok (.lcmp, 1)) (k : TW p l e R s m args below meth c Q D cl A Wd nL ce sl g (pc + 1) lv (.int (lg_cmp x y) :: st)) : TW p l e R s m args below meth c Q D cl A Wd nL ce sl g pc lv (.long y :: .long x :: st) :=
  fun H locs ls hl hP hD hS => W.lcmp X.hx X.hb hdg (k H locs ls hl hP hD hS)
theorem tw_ldc (X : Cx p c cc nL s args own m meth D cl tys A) {index : Nat} {v : Int32} (hq : Jvm.Cond.constant own index v ∈ lw_all) (hdg : decode cc pc = .ok (.ldc index, 2)) (k : TW p l e R s m args below meth c Q D cl A Wd nL ce sl g (pc + 2) lv (.int v :: st)) : TW p l e R s m args below meth c Q D cl A Wd nL ce sl g pc lv st :=
  fun H locs ls hl hP hD hS => lv_ldc X.hx X.hb X.hown (X.hts _ hq) hdg (k H locs ls hl hP hD hS)
theorem tw_ldcw (X : Cx p c cc nL s args own m meth D cl tys A) {index : Nat} {v : Int32} (hq : Jvm.Cond.constant own index v ∈ lw_all) (hdg : decode cc pc = .ok (.ldc_w index, 3)) (k : TW p l e R s m args below meth c Q D cl A Wd nL ce sl g (pc + 3) lv (.int v :: st)) : TW p l e R s m args below meth c Q D cl A Wd nL ce sl g pc lv st :=
  fun H locs ls hl hP hD hS => lv_ldcw X.hx X.hb X.hown (X.hts _ hq) hdg (k H locs ls hl hP hD hS)
theorem tw_ldc2 (X : Cx p c cc nL s args own m meth D cl tys A) {index : Nat} {v : Int64} (hq : Jvm.Cond.constantLong own index v ∈ lw_all) (hdg : decode cc pc = .ok (.ldc2_w index, 3)) (k : TW p l e R s m args below meth c Q D cl A Wd nL ce sl g (pc + 3) lv (.long v :: st)) : TW p l e R s m args below meth c Q D cl A Wd nL ce sl g pc lv st :=
  fun H locs ls hl hP hD hS => lv_ldc2 X.hx X.hb X.hown (X.hts _ hq) hdg (k H locs ls hl hP hD hS)
theorem tw_goto (X : Cx p c cc nL s args own m meth D cl tys A) {off : Int} {tgt : Nat} (hdg : decode cc pc = .ok (.goto off, 3)) (ht : (pc : Int) + off = (tgt : Int)) (k : TW p l e R s m args below meth c Q D cl A Wd nL ce sl g tgt lv st) : TW p l e R s m args below meth c Q D cl A Wd nL ce sl g pc lv st :=
  fun H locs ls hl hP hD hS => lv_goto X.hx X.hb hdg ht (k H locs ls hl hP hD hS)
theorem tw_null (X : Cx p c cc nL s args own m meth D cl tys A)  (hdg : decode cc pc = .ok (.aconst_null, 1)) (k : TW p l e R s m args below meth c Q D cl A Wd nL ce sl g (pc + 1) lv (.null :: st)) : TW p l e R s m args below meth c Q D cl A Wd nL ce sl g pc lv st :=
  fun H locs ls hl hP hD hS => lv_null X.hx X.hb hdg (k H locs ls hl hP hD hS)
theorem tw_ifnull (X : Cx p c cc nL s args own m meth D cl tys A) {x : Nat} {off : Int} (hdg : decode cc pc = .ok (.ifnull off, 3)) (k : TW p l e R s m args below meth c Q D cl A Wd nL ce sl g (pc + 3) lv st) : TW p l e R s m args below meth c Q D cl A Wd nL ce sl g pc lv (.ref x :: st) :=
  fun H locs ls hl hP hD hS => lv_ifnull X.hx X.hb hdg (k H locs ls hl hP hD hS)
theorem tw_ifnullN (X : Cx p c cc nL s args own m meth D cl tys A) {off : Int} {tgt : Nat} (hdg : decode cc pc = .ok (.ifnull off, 3)) (ht : (pc : Int) + off = (tgt : Int)) (k : TW p l e R s m args below meth c Q D cl A Wd nL ce sl g tgt lv st) : TW p l e R s m args below meth c Q D cl A Wd nL ce sl g pc lv (.null :: st) :=
  fun H locs ls hl hP hD hS => lv_ifnullN X.hx X.hb hdg ht (k H locs ls hl hP hD hS)
theorem tw_ifnonnull (X : Cx p c cc nL s args own m meth D cl tys A) {x : Nat} {off : Int} {tgt : Nat} (hdg : decode cc pc = .ok (.ifnonnull off, 3)) (ht : (pc : Int) + off = (tgt : Int)) (k : TW p l e R s m args below meth c Q D cl A Wd nL ce sl g tgt lv st) : TW p l e R s m args below meth c Q D cl A Wd nL ce sl g pc lv (.ref x :: st) :=
  fun H locs ls hl hP hD hS => lv_ifnonnull X.hx X.hb hdg ht (k H locs ls hl hP hD hS)
theorem tw_ifnonnullN (X : Cx p c cc nL s args own m meth D cl tys A) {off : Int} (hdg : decode cc pc = .ok (.ifnonnull off, 3)) (k : TW p l e R s m args below meth c Q D cl A Wd nL ce sl g (pc + 3) lv st) : TW p l e R s m args below meth c Q D cl A Wd nL ce sl g pc lv (.null :: st) :=
  fun H locs ls hl hP hD hS => lv_ifnonnullN X.hx X.hb hdg (k H locs ls hl hP hD hS)
theorem tw_istore_n (X : Cx p c cc nL s args own m meth D cl tys A) {k0 : Fin 4} {i : Nat} {x : Int32} {lv' : List (Nat × Value)} (hdg : decode cc pc = .ok (.istore_n k0, 1)) (hi : (k0 : Nat) = i) (hn : i < nL) (hl' : (i, Value.int x) :: lv.filter (fun q => !(q.1 == i) && !(q.1 + 1 == i && q.2.category == 2)) = lv') (k : TW p l e R s m args below meth c Q D cl A Wd nL ce sl g (pc + 1) lv' st) : TW p l e R s m args below meth c Q D cl A Wd nL ce sl g pc lv (.int x :: st) :=
  fun H locs ls hl hP hD hS => lv_istore_n X.hx X.hb hdg hi hl hn hl' (fun ls' hl2 => k H locs ls' hl2 hP hD hS)
theorem tw_istore (X : Cx p c cc nL s args own m meth D cl tys A) {i : Nat} {x : Int32} {lv' : List (Nat × Value)} (hdg : decode cc pc = .ok (.istore i, 2)) (hn : i < nL) (hl' : (i, Value.int x) :: lv.filter (fun q => !(q.1 == i) && !(q.1 + 1 == i && q.2.category == 2)) = lv') (k : TW p l e R s m args below meth c Q D cl A Wd nL ce sl g (pc + 2) lv' st) : TW p l e R s m args below meth c Q D cl A Wd nL ce sl g pc lv (.int x :: st) :=
  fun H locs ls hl hP hD hS => lv_istore X.hx X.hb hdg hl hn hl' (fun ls' hl2 => k H locs ls' hl2 hP hD hS)
theorem tw_lstore_n (X : Cx p c cc nL s args own m meth D cl tys A) {k0 : Fin 4} {i : Nat} {x : Int64} {lv' : List (Nat × Value)} (hdg : decode cc pc = .ok (.lstore_n k0, 1)) (hi : (k0 : Nat) = i) (hn : i + 1 < nL) (hl' : (i, Value.long x) :: lv.filter (fun q => !(q.1 == i) && (!(q.1 == i + 1) && !(q.1 + 1 == i && q.2.category == 2))) = lv') (k : TW p l e R s m args below meth c Q D cl A Wd nL ce sl g (pc + 1) lv' st) : TW p l e R s m args below meth c Q D cl A Wd nL ce sl g pc lv (.long x :: st) :=
  fun H locs ls hl hP hD hS => lv_lstore_n X.hx X.hb hdg hi hl hn hl' (fun ls' hl2 => k H locs ls' hl2 hP hD hS)
theorem tw_lstore (X : Cx p c cc nL s args own m meth D cl tys A) {i : Nat} {x : Int64} {lv' : List (Nat × Value)} (hdg : decode cc pc = .ok (.lstore i, 2)) (hn : i + 1 < nL) (hl' : (i, Value.long x) :: lv.filter (fun q => !(q.1 == i) && (!(q.1 == i + 1) && !(q.1 + 1 == i && q.2.category == 2))) = lv') (k : TW p l e R s m args below meth c Q D cl A Wd nL ce sl g (pc + 2) lv' st) : TW p l e R s m args below meth c Q D cl A Wd nL ce sl g pc lv (.long x :: st) :=
  fun H locs ls hl hP hD hS => lv_lstore X.hx X.hb hdg hl hn hl' (fun ls' hl2 => k H locs ls' hl2 hP hD hS)
theorem tw_astore_n (X : Cx p c cc nL s args own m meth D cl tys A) {k0 : Fin 4} {i : Nat} {x : Nat} {lv' : List (Nat × Value)} (hdg : decode cc pc = .ok (.astore_n k0, 1)) (hi : (k0 : Nat) = i) (hn : i < nL) (hl' : (i, Value.ref x) :: lv.filter (fun q => !(q.1 == i) && !(q.1 + 1 == i && q.2.category == 2)) = lv') (k : TW p l e R s m args below meth c Q D cl A Wd nL ce sl g (pc + 1) lv' st) : TW p l e R s m args below meth c Q D cl A Wd nL ce sl g pc lv (.ref x :: st) :=
  fun H locs ls hl hP hD hS => lv_astore_n X.hx X.hb hdg hi hl hn hl' (fun ls' hl2 => k H locs ls' hl2 hP hD hS)
theorem tw_astore (X : Cx p c cc nL s args own m meth D cl tys A) {i : Nat} {x : Nat} {lv' : List (Nat × Value)} (hdg : decode cc pc = .ok (.astore i, 2)) (hn : i < nL) (hl' : (i, Value.ref x) :: lv.filter (fun q => !(q.1 == i) && !(q.1 + 1 == i && q.2.category == 2)) = lv') (k : TW p l e R s m args below meth c Q D cl A Wd nL ce sl g (pc + 2) lv' st) : TW p l e R s m args below meth c Q D cl A Wd nL ce sl g pc lv (.ref x :: st) :=
  fun H locs ls hl hP hD hS => lv_astore X.hx X.hb hdg hl hn hl' (fun ls' hl2 => k H locs ls' hl2 hP hD hS)
theorem tw_iinc (X : Cx p c cc nL s args own m meth D cl tys A) {i q : Nat} {n : Int} {x v : Int32} {lv' : List (Nat × Value)} (hdg : decode cc pc = .ok (.iinc i n, 3)) (hk : lv[q]? = some (i, .int x)) (hv : x + Int32.ofInt n = v) (hn : i < nL) (hl' : (i, Value.int v) :: lv.filter (fun q => !(q.1 == i) && !(q.1 + 1 == i && q.2.category == 2)) = lv') (k : TW p l e R s m args below meth c Q D cl A Wd nL ce sl g (pc + 3) lv' st) : TW p l e R s m args below meth c Q D cl A Wd nL ce sl g pc lv st :=
  fun H locs ls hl hP hD hS => lv_iinc X.hx X.hb hdg hl hk hv hn hl' (fun ls' hl2 => k H locs ls' hl2 hP hD hS)
theorem tw_sub (ks : List Nat) {lv' : List (Nat × Value)} (hs : lv_pick lv ks = lv') (k : TW p l e R s m args below meth c Q D cl A Wd nL ce sl g pc lv' st) : TW p l e R s m args below meth c Q D cl A Wd nL ce sl g pc lv st :=
  fun H locs ls hl hP hD hS => k H locs ls (lv_sub hl ks hs) hP hD hS
theorem tw_if_eq (X : Cx p c cc nL s args own m meth D cl tys A) {x : Int32} {off : Int} {tgt : Nat} {β : Type} {a b z : β} (hdg : decode cc pc = .ok (.ifCond .eq off, 3)) (ht : (pc : Int) + off = (tgt : Int)) (hf : (if x = 0 then a else b) = z) (kt : x = 0 → a = z → TW p l e R s m args below meth c Q D cl A Wd nL ce sl g tgt lv st) (kf : ¬ x = 0 → b = z → TW p l e R s m args below meth c Q D cl A Wd nL ce sl g (pc + 3) lv st) : TW p l e R s m args below meth c Q D cl A Wd nL ce sl g pc lv (.int x :: st) :=
  fun H locs ls hl hP hD hS => lv_if_eq X.hx X.hb hdg ht (fun q => kt q (by rw [if_pos q] at hf; exact hf) H locs ls hl hP hD hS) (fun q => kf q (by rw [if_neg q] at hf; exact hf) H locs ls hl hP hD hS)
theorem tw_if_ne (X : Cx p c cc nL s args own m meth D cl tys A) {x : Int32} {off : Int} {tgt : Nat} {β : Type} {a b z : β} (hdg : decode cc pc = .ok (.ifCond .ne off, 3)) (ht : (pc : Int) + off = (tgt : Int)) (hf : (if x = 0 then a else b) = z) (kt : x = 0 → a = z → TW p l e R s m args below meth c Q D cl A Wd nL ce sl g (pc + 3) lv st) (kf : ¬ x = 0 → b = z → TW p l e R s m args below meth c Q D cl A Wd nL ce sl g tgt lv st) : TW p l e R s m args below meth c Q D cl A Wd nL ce sl g pc lv (.int x :: st) :=
  fun H locs ls hl hP hD hS => lv_if_ne X.hx X.hb hdg ht (fun q => kf q (by rw [if_neg q] at hf; exact hf) H locs ls hl hP hD hS) (fun q => kt q (by rw [if_pos q] at hf; exact hf) H locs ls hl hP hD hS)
theorem tw_if_lt (X : Cx p c cc nL s args own m meth D cl tys A) {x : Int32} {off : Int} {tgt : Nat} {β : Type} {a b z : β} (hdg : decode cc pc = .ok (.ifCond .lt off, 3)) (ht : (pc : Int) + off = (tgt : Int)) (hf : (if x < 0 then a else b) = z) (kt : x < 0 → a = z → TW p l e R s m args below meth c Q D cl A Wd nL ce sl g tgt lv st) (kf : ¬ x < 0 → b = z → TW p l e R s m args below meth c Q D cl A Wd nL ce sl g (pc + 3) lv st) : TW p l e R s m args below meth c Q D cl A Wd nL ce sl g pc lv (.int x :: st) :=
  fun H locs ls hl hP hD hS => lv_if_lt X.hx X.hb hdg ht (fun q => kt q (by rw [if_pos q] at hf; exact hf) H locs ls hl hP hD hS) (fun q => kf q (by rw [if_neg q] at hf; exact hf) H locs ls hl hP hD hS)
theorem tw_if_ge (X : Cx p c cc nL s args own m meth D cl tys A) {x : Int32} {off : Int} {tgt : Nat} {β : Type} {a b z : β} (hdg : decode cc pc = .ok (.ifCond .ge off, 3)) (ht : (pc : Int) + off = (tgt : Int)) (hf : (if 0 ≤ x then a else b) = z) (kt : 0 ≤ x → a = z → TW p l e R s m args below meth c Q D cl A Wd nL ce sl g tgt lv st) (kf : ¬ 0 ≤ x → b = z → TW p l e R s m args below meth c Q D cl A Wd nL ce sl g (pc + 3) lv st) : TW p l e R s m args below meth c Q D cl A Wd nL ce sl g pc lv (.int x :: st) :=
  fun H locs ls hl hP hD hS => lv_if_ge X.hx X.hb hdg ht (fun q => kt q (by rw [if_pos q] at hf; exact hf) H locs ls hl hP hD hS) (fun q => kf q (by rw [if_neg q] at hf; exact hf) H locs ls hl hP hD hS)
theorem tw_if_gt (X : Cx p c cc nL s args own m meth D cl tys A) {x : Int32} {off : Int} {tgt : Nat} {β : Type} {a b z : β} (hdg : decode cc pc = .ok (.ifCond .gt off, 3)) (ht : (pc : Int) + off = (tgt : Int)) (hf : (if 0 < x then a else b) = z) (kt : 0 < x → a = z → TW p l e R s m args below meth c Q D cl A Wd nL ce sl g tgt lv st) (kf : ¬ 0 < x → b = z → TW p l e R s m args below meth c Q D cl A Wd nL ce sl g (pc + 3) lv st) : TW p l e R s m args below meth c Q D cl A Wd nL ce sl g pc lv (.int x :: st) :=
  fun H locs ls hl hP hD hS => lv_if_gt X.hx X.hb hdg ht (fun q => kt q (by rw [if_pos q] at hf; exact hf) H locs ls hl hP hD hS) (fun q => kf q (by rw [if_neg q] at hf; exact hf) H locs ls hl hP hD hS)
theorem tw_if_le (X : Cx p c cc nL s args own m meth D cl tys A) {x : Int32} {off : Int} {tgt : Nat} {β : Type} {a b z : β} (hdg : decode cc pc = .ok (.ifCond .le off, 3)) (ht : (pc : Int) + off = (tgt : Int)) (hf : (if x ≤ 0 then a else b) = z) (kt : x ≤ 0 → a = z → TW p l e R s m args below meth c Q D cl A Wd nL ce sl g tgt lv st) (kf : ¬ x ≤ 0 → b = z → TW p l e R s m args below meth c Q D cl A Wd nL ce sl g (pc + 3) lv st) : TW p l e R s m args below meth c Q D cl A Wd nL ce sl g pc lv (.int x :: st) :=
  fun H locs ls hl hP hD hS => lv_if_le X.hx X.hb hdg ht (fun q => kt q (by rw [if_pos q] at hf; exact hf) H locs ls hl hP hD hS) (fun q => kf q (by rw [if_neg q] at hf; exact hf) H locs ls hl hP hD hS)
theorem tw_icmp_eq (X : Cx p c cc nL s args own m meth D cl tys A) {x y : Int32} {off : Int} {tgt : Nat} {β : Type} {a b z : β} (hdg : decode cc pc = .ok (.if_icmp .eq off, 3)) (ht : (pc : Int) + off = (tgt : Int)) (hf : (if x = y then a else b) = z) (kt : x = y → a = z → TW p l e R s m args below meth c Q D cl A Wd nL ce sl g tgt lv st) (kf : ¬ x = y → b = z → TW p l e R s m args below meth c Q D cl A Wd nL ce sl g (pc + 3) lv st) : TW p l e R s m args below meth c Q D cl A Wd nL ce sl g pc lv (.int y :: .int x :: st) :=
  fun H locs ls hl hP hD hS => lv_icmp_eq X.hx X.hb hdg ht (fun q => kt q (by rw [if_pos q] at hf; exact hf) H locs ls hl hP hD hS) (fun q => kf q (by rw [if_neg q] at hf; exact hf) H locs ls hl hP hD hS)
theorem tw_icmp_ne (X : Cx p c cc nL s args own m meth D cl tys A) {x y : Int32} {off : Int} {tgt : Nat} {β : Type} {a b z : β} (hdg : decode cc pc = .ok (.if_icmp .ne off, 3)) (ht : (pc : Int) + off = (tgt : Int)) (hf : (if x = y then a else b) = z) (kt : x = y → a = z → TW p l e R s m args below meth c Q D cl A Wd nL ce sl g (pc + 3) lv st) (kf : ¬ x = y → b = z → TW p l e R s m args below meth c Q D cl A Wd nL ce sl g tgt lv st) : TW p l e R s m args below meth c Q D cl A Wd nL ce sl g pc lv (.int y :: .int x :: st) :=
  fun H locs ls hl hP hD hS => lv_icmp_ne X.hx X.hb hdg ht (fun q => kf q (by rw [if_neg q] at hf; exact hf) H locs ls hl hP hD hS) (fun q => kt q (by rw [if_pos q] at hf; exact hf) H locs ls hl hP hD hS)
theorem tw_icmp_lt (X : Cx p c cc nL s args own m meth D cl tys A) {x y : Int32} {off : Int} {tgt : Nat} {β : Type} {a b z : β} (hdg : decode cc pc = .ok (.if_icmp .lt off, 3)) (ht : (pc : Int) + off = (tgt : Int)) (hf : (if x < y then a else b) = z) (kt : x < y → a = z → TW p l e R s m args below meth c Q D cl A Wd nL ce sl g tgt lv st) (kf : ¬ x < y → b = z → TW p l e R s m args below meth c Q D cl A Wd nL ce sl g (pc + 3) lv st) : TW p l e R s m args below meth c Q D cl A Wd nL ce sl g pc lv (.int y :: .int x :: st) :=
  fun H locs ls hl hP hD hS => lv_icmp_lt X.hx X.hb hdg ht (fun q => kt q (by rw [if_pos q] at hf; exact hf) H locs ls hl hP hD hS) (fun q => kf q (by rw [if_neg q] at hf; exact hf) H locs ls hl hP hD hS)
theorem tw_icmp_ge (X : Cx p c cc nL s args own m meth D cl tys A) {x y : Int32} {off : Int} {tgt : Nat} {β : Type} {a b z : β} (hdg : decode cc pc = .ok (.if_icmp .ge off, 3)) (ht : (pc : Int) + off = (tgt : Int)) (hf : (if y ≤ x then a else b) = z) (kt : y ≤ x → a = z → TW p l e R s m args below meth c Q D cl A Wd nL ce sl g tgt lv st) (kf : ¬ y ≤ x → b = z → TW p l e R s m args below meth c Q D cl A Wd nL ce sl g (pc + 3) lv st) : TW p l e R s m args below meth c Q D cl A Wd nL ce sl g pc lv (.int y :: .int x :: st) :=
  fun H locs ls hl hP hD hS => lv_icmp_ge X.hx X.hb hdg ht (fun q => kt q (by rw [if_pos q] at hf; exact hf) H locs ls hl hP hD hS) (fun q => kf q (by rw [if_neg q] at hf; exact hf) H locs ls hl hP hD hS)
theorem tw_icmp_gt (X : Cx p c cc nL s args own m meth D cl tys A) {x y : Int32} {off : Int} {tgt : Nat} {β : Type} {a b z : β} (hdg : decode cc pc = .ok (.if_icmp .gt off, 3)) (ht : (pc : Int) + off = (tgt : Int)) (hf : (if y < x then a else b) = z) (kt : y < x → a = z → TW p l e R s m args below meth c Q D cl A Wd nL ce sl g tgt lv st) (kf : ¬ y < x → b = z → TW p l e R s m args below meth c Q D cl A Wd nL ce sl g (pc + 3) lv st) : TW p l e R s m args below meth c Q D cl A Wd nL ce sl g pc lv (.int y :: .int x :: st) :=
  fun H locs ls hl hP hD hS => lv_icmp_gt X.hx X.hb hdg ht (fun q => kt q (by rw [if_pos q] at hf; exact hf) H locs ls hl hP hD hS) (fun q => kf q (by rw [if_neg q] at hf; exact hf) H locs ls hl hP hD hS)
theorem tw_icmp_le (X : Cx p c cc nL s args own m meth D cl tys A) {x y : Int32} {off : Int} {tgt : Nat} {β : Type} {a b z : β} (hdg : decode cc pc = .ok (.if_icmp .le off, 3)) (ht : (pc : Int) + off = (tgt : Int)) (hf : (if x ≤ y then a else b) = z) (kt : x ≤ y → a = z → TW p l e R s m args below meth c Q D cl A Wd nL ce sl g tgt lv st) (kf : ¬ x ≤ y → b = z → TW p l e R s m args below meth c Q D cl A Wd nL ce sl g (pc + 3) lv st) : TW p l e R s m args below meth c Q D cl A Wd nL ce sl g pc lv (.int y :: .int x :: st) :=
  fun H locs ls hl hP hD hS => lv_icmp_le X.hx X.hb hdg ht (fun q => kt q (by rw [if_pos q] at hf; exact hf) H locs ls hl hP hD hS) (fun q => kf q (by rw [if_neg q] at hf; exact hf) H locs ls hl hP hD hS)
theorem tw_tableIn (X : Cx p c cc nL s args own m meth D cl tys A) {dflt lo hi : Int} {offs : Array Int} {len : Nat} {x : Int32} {off : Int} {tgt : Nat} (hdg : decode cc pc = .ok (.tableswitch dflt lo hi offs, len)) {v : Int32} (hx : x = v) (h1 : ¬ v.toInt < lo) (h2 : ¬ hi < v.toInt) (ho : offs[(v.toInt - lo).toNat]? = some off) (ht : (pc : Int) + off = (tgt : Int)) (k : TW p l e R s m args below meth c Q D cl A Wd nL ce sl g tgt lv st) : TW p l e R s m args below meth c Q D cl A Wd nL ce sl g pc lv (.int x :: st) :=
  fun H locs ls hl hP hD hS => by
    subst hx
    exact lv_tableIn X.hx X.hb hdg h1 h2 ho ht (k H locs ls hl hP hD hS)
theorem tw_tableOut (X : Cx p c cc nL s args own m meth D cl tys A) {dflt lo hi : Int} {offs : Array Int} {len : Nat} {x : Int32} {tgt : Nat} (hdg : decode cc pc = .ok (.tableswitch dflt lo hi offs, len)) (h : x.toInt < lo ∨ hi < x.toInt) (ht : (pc : Int) + dflt = (tgt : Int)) (k : TW p l e R s m args below meth c Q D cl A Wd nL ce sl g tgt lv st) : TW p l e R s m args below meth c Q D cl A Wd nL ce sl g pc lv (.int x :: st) :=
  fun H locs ls hl hP hD hS => lv_tableOut X.hx X.hb hdg h ht (k H locs ls hl hP hD hS)
theorem tw_lookup (X : Cx p c cc nL s args own m meth D cl tys A) {dflt : Int} {ps : Array (Int × Int)} {len : Nat} {x : Int32} {off : Int} {tgt : Nat} (hdg : decode cc pc = .ok (.lookupswitch dflt ps, len)) (hp : (ps.toList.zip (ps.toList.drop 1)).all (fun (a, next) => a.1 < next.1) = true) (ho : Op.lookupswitch.offset ps.toList dflt x.toInt = off) (ht : (pc : Int) + off = (tgt : Int)) (k : TW p l e R s m args below meth c Q D cl A Wd nL ce sl g tgt lv st) : TW p l e R s m args below meth c Q D cl A Wd nL ce sl g pc lv (.int x :: st) :=
  fun H locs ls hl hP hD hS => lv_lookup X.hx X.hb hdg hp ho ht (k H locs ls hl hP hD hS)
theorem i32_ne {x v : Int32} (h : ¬ x = v) : x.toInt ≠ v.toInt := fun q => h (Int32.toInt_inj.mp q)
theorem tw_get (X : Cx p c cc nL s args own m meth D cl tys A) {ref C : String} {T : u_T} {N ci index : Nat} (hin : ∀ w ∈ u_ws C T N, w ∈ lw_all) (q0 : Nat) {a : Nat} {fs : List Value} (he : (Wd g)[q0]? = some (a, .inr (ci, fs))) (hc : cl[ci]? = some (C, T, N)) (k : Nat) (hk : k < N) (hlink : Cond.fieldLink own index ref (T k).2.1 (T k).2.2.1 ∈ lw_all) (hsame : (T k).1 = ref) {v : Value} (hv : fs[k]? = some v) (hdg : decode cc pc = .ok (.getfield index, 3)) (kk : TW p l e R s m args below meth c Q D cl A Wd nL ce sl g (pc + 3) lv (v :: st)) : TW p l e R s m args below meth c Q D cl A Wd nL ce sl g pc lv (.ref a :: st) :=
  fun H locs ls hl hP hD hS => va_get X.hx X.hb X.hts hin X.hown X.hK hP q0 he hc k hk (X.hts _ hlink) (fun _ h => by rw [← hsame]; exact h) hv hdg (kk H locs ls hl hP hD hS)
theorem tw_put (X : Cx p c cc nL s args own m meth D cl tys A) {g' : σ} {ref C : String} {T : u_T} {N ci index : Nat} (hin : ∀ w ∈ u_ws C T N, w ∈ lw_all) (ty0 : Nat → FieldType) (hty : ∀ k, k < N → parseFieldDescriptor (T k).2.2.1 = some (ty0 k)) (hnm : ∀ a, a < N → ∀ b, b < N → a ≠ b → (T a).2.1 ≠ (T b).2.1) (q0 : Nat) {a : Nat} {fs : List Value} (he : (Wd g)[q0]? = some (a, .inr (ci, fs))) (hc : cl[ci]? = some (C, T, N)) (k : Nat) (hk : k < N) (hlink : Cond.fieldLink own index ref (T k).2.1 (T k).2.2.1 ∈ lw_all) (hsame : (T k).1 = ref) (hfin : (T k).2.2.2 = false) {ty : FieldType} {v : Value} (hd : parseFieldDescriptor (T k).2.2.1 = some ty) (hn : narrow ty v = v) (hfit : fits ty v = true) (hl0 : k < fs.length) (hdg : decode cc pc = .ok (.putfield index, 3)) (hg : (Wd g).set q0 (a, .inr (ci, fs.set k v)) = Wd g') (kk : TW p l e R s m args below meth c Q D cl A Wd nL ce sl g' (pc + 3) lv st) : TW p l e R s m args below meth c Q D cl A Wd nL ce sl g pc lv (v :: .ref a :: st) :=
  fun H locs ls hl hP hD hS => va_put X.hx X.hb X.hts hin ty0 hty hnm X.hown X.hK hP hD hS q0 he hc k hk (X.hts _ hlink) (fun _ h => by rw [← hsame]; exact h) hfin hd hn hfit hl0 hdg (fun H1 locs1 hP1 hD1 hS1 => kk H1 locs1 ls hl (hg ▸ hP1) (hg ▸ hD1) hS1)
theorem tw_iald (X : Cx p c cc nL s args own m meth D cl tys A) (q0 t0 : Nat) {a : Nat} {cA : ClassId} {n : Nat} {f : Nat → Int32} (ha : (Wd g)[q0]? = some (a, .inl (cA, n, .inl f))) (ht : tys[t0]? = some (cA, .int)) {i x : Int32} (hr : rd f n i = some x) (hdg : decode cc pc = .ok (.iaload, 1)) (kk : TW p l e R s m args below meth c Q D cl A Wd nL ce sl g (pc + 1) lv (.int x :: st)) : TW p l e R s m args below meth c Q D cl A Wd nL ce sl g pc lv (.int i :: .ref a :: st) :=
  fun H locs ls hl hP hD hS => va_iald X.hx X.hb X.hK hP q0 t0 ha ht (rd_in hr).1 hdg (by rw [(rd_in hr).2]; exact kk H locs ls hl hP hD hS)
theorem tw_bald (X : Cx p c cc nL s args own m meth D cl tys A) (q0 t0 : Nat) {a : Nat} {cA : ClassId} {n : Nat} {f : Nat → Int32} (ha : (Wd g)[q0]? = some (a, .inl (cA, n, .inl f))) (ht : tys[t0]? = some (cA, .byte)) {i x : Int32} (hr : rd f n i = some x) (hdg : decode cc pc = .ok (.baload, 1)) (kk : TW p l e R s m args below meth c Q D cl A Wd nL ce sl g (pc + 1) lv (.int x :: st)) : TW p l e R s m args below meth c Q D cl A Wd nL ce sl g pc lv (.int i :: .ref a :: st) :=
  fun H locs ls hl hP hD hS => va_bald X.hx X.hb X.hK hP q0 t0 ha ht (rd_in hr).1 hdg (by rw [(rd_in hr).2]; exact kk H locs ls hl hP hD hS)
theorem tw_iast (X : Cx p c cc nL s args own m meth D cl tys A) {g' : σ} (q0 t0 : Nat) {a : Nat} {cA : ClassId} {n : Nat} {f : Nat → Int32} (ha : (Wd g)[q0]? = some (a, .inl (cA, n, .inl f))) (ht : tys[t0]? = some (cA, .int)) {i x : Int32} (hin : vp_in i n) (hg : (Wd g).set q0 (a, .inl (cA, n, .inl (upd f i.toNatClampNeg x))) = Wd g') (hdg : decode cc pc = .ok (.iastore, 1)) (kk : TW p l e R s m args below meth c Q D cl A Wd nL ce sl g' (pc + 1) lv st) : TW p l e R s m args below meth c Q D cl A Wd nL ce sl g pc lv (.int x :: .int i :: .ref a :: st) :=
  fun H locs ls hl hP hD hS => va_iast X.hx X.hb X.hK hP hD hS q0 t0 ha ht hin hdg (fun H1 locs1 hP1 hD1 hS1 => kk H1 locs1 ls hl (hg ▸ hP1) (hg ▸ hD1) hS1)
theorem tw_alen (X : Cx p c cc nL s args own m meth D cl tys A) (q0 t0 : Nat) {a : Nat} {cA : ClassId} {x : vp_A} (ha : (Wd g)[q0]? = some (a, .inl (cA, x))) {ty : FieldType} (ht : tys[t0]? = some (cA, ty)) {v : Int32} (hv : Int32.ofNat x.1 = v) (hdg : decode cc pc = .ok (.arraylength, 1)) (kk : TW p l e R s m args below meth c Q D cl A Wd nL ce sl g (pc + 1) lv (.int v :: st)) : TW p l e R s m args below meth c Q D cl A Wd nL ce sl g pc lv (.ref a :: st) :=
  fun H locs ls hl hP hD hS => va_alen X.hx X.hb X.hK hP q0 t0 ha ht hv hdg (kk H locs ls hl hP hD hS)
theorem tw_bast (X : Cx p c cc nL s args own m meth D cl tys A) {g' : σ} (q0 t0 : Nat) {a : Nat} {cA : ClassId} {n : Nat} {f : Nat → Int32} (ha : (Wd g)[q0]? = some (a, .inl (cA, n, .inl f))) (ht : tys[t0]? = some (cA, .byte)) {i x : Int32} (hin : vp_in i n) (hg : (Wd g).set q0 (a, .inl (cA, n, .inl (upd f i.toNatClampNeg (vp_nar .byte x)))) = Wd g') (hdg : decode cc pc = .ok (.bastore, 1)) (kk : TW p l e R s m args below meth c Q D cl A Wd nL ce sl g' (pc + 1) lv st) : TW p l e R s m args below meth c Q D cl A Wd nL ce sl g pc lv (.int x :: .int i :: .ref a :: st) :=
  fun H locs ls hl hP hD hS => va_bast X.hx X.hb X.hK hP hD hS q0 t0 ha ht hin hdg (fun H1 locs1 hP1 hD1 hS1 => kk H1 locs1 ls hl (hg ▸ hP1) (hg ▸ hD1) hS1)
theorem tw_getN (X : Cx p c cc nL s args own m meth D cl tys A) {ref C host : String} {T : u_T} {N ci index : Nat} (hin : ∀ w ∈ u_ws C T N, w ∈ lw_all) (q0 : Nat) {a : Nat} {fs : List Value} (he : (Wd g)[q0]? = some (a, .inr (ci, fs))) (hc : cl[ci]? = some (C, T, N)) (k : Nat) (hk : k < N) (hlink : Cond.fieldLinkNest own index ref (T k).2.1 (T k).2.2.1 host ∈ nwL) (hsame : (T k).1 = ref) {v : Value} (hv : fs[k]? = some v) (hdg : decode cc pc = .ok (.getfield index, 3)) (kk : TW p l e R s m args below meth c Q D cl A Wd nL ce sl g (pc + 3) lv (v :: st)) : TW p l e R s m args below meth c Q D cl A Wd nL ce sl g pc lv (.ref a :: st) :=
  fun H locs ls hl hP hD hS => va_getN X.hx X.hb X.hts hin X.hown X.hK hP q0 he hc k hk (va_Nw.use rfl (X.hN.1 _ hlink)) (fun _ h => by rw [← hsame]; exact h) hv hdg (kk H locs ls hl hP hD hS)
theorem tw_putN (X : Cx p c cc nL s args own m meth D cl tys A) {g' : σ} {ref C host : String} {T : u_T} {N ci index : Nat} (hin : ∀ w ∈ u_ws C T N, w ∈ lw_all) (ty0 : Nat → FieldType) (hty : ∀ k, k < N → parseFieldDescriptor (T k).2.2.1 = some (ty0 k)) (hnm : ∀ a, a < N → ∀ b, b < N → a ≠ b → (T a).2.1 ≠ (T b).2.1) (q0 : Nat) {a : Nat} {fs : List Value} (he : (Wd g)[q0]? = some (a, .inr (ci, fs))) (hc : cl[ci]? = some (C, T, N)) (k : Nat) (hk : k < N) (hlink : Cond.fieldLinkNest own index ref (T k).2.1 (T k).2.2.1 host ∈ nwL) (hsame : (T k).1 = ref) (hfin : (T k).2.2.2 = false) {ty : FieldType} {v : Value} (hd : parseFieldDescriptor (T k).2.2.1 = some ty) (hn : narrow ty v = v) (hfit : fits ty v = true) (hl0 : k < fs.length) (hdg : decode cc pc = .ok (.putfield index, 3)) (hg : (Wd g).set q0 (a, .inr (ci, fs.set k v)) = Wd g') (kk : TW p l e R s m args below meth c Q D cl A Wd nL ce sl g' (pc + 3) lv st) : TW p l e R s m args below meth c Q D cl A Wd nL ce sl g pc lv (v :: .ref a :: st) :=
  fun H locs ls hl hP hD hS => va_putN X.hx X.hb X.hts hin ty0 hty hnm X.hown X.hK hP hD hS q0 he hc k hk (va_Nw.use rfl (X.hN.1 _ hlink)) (fun _ h => by rw [← hsame]; exact h) hfin hd hn hfit hl0 hdg (fun H1 locs1 hP1 hD1 hS1 => kk H1 locs1 ls hl (hg ▸ hP1) (hg ▸ hD1) hS1)
/-- a row copied, of ints: all in range -/
theorem tw_copyi (X : Cx p c cc nL s args own m meth D cl tys A) {g' : σ} {index : Nat} (hlink : Cond.methodLink own index arraycopyName ∈ lw_all) (hnat : Cond.native arraycopyName ∈ lw_all) (hstat : Cond.static arraycopyName ∈ lw_all) (hini : Cond.initialized "java/lang/System" ∈ lw_all) (q0 q1 t0 : Nat) {a0 a : Nat} {c0 : ClassId} {n0 n1 : Nat} {f h : Nat → Int32} (ha0 : (Wd g)[q0]? = some (a0, .inl (c0, n0, .inl f))) (ha1 : (Wd g)[q1]? = some (a, .inl (c0, n1, .inl h))) (ht0 : tys[t0]? = some (c0, .int)) {sp dp n : Int32} (hok : ¬ (sp < 0 ∨ dp < 0 ∨ n < 0 ∨ n0 < sp.toNatClampNeg + n.toNatClampNeg ∨ n1 < dp.toNatClampNeg + n.toNatClampNeg)) (hg : (Wd g).set q1 (a, .inl (c0, n1, .inl (va_cpy f h sp.toNatClampNeg dp.toNatClampNeg n.toNatClampNeg))) = Wd g') (hR : 1 ≤ R.frames ∧ 40 ≤ R.locals) (hW : (st.map fun v => v.category).sum ≤ 8) (hdg : decode cc pc = .ok (.invokestatic index, 3)) (kk : TW p l e R s m args below meth c Q D cl A Wd nL ce sl g' (pc + 3) lv st) : TW p l e R s m args below meth c Q D cl A Wd nL ce sl g pc lv (.int n :: .int dp :: .ref a :: .int sp :: .ref a0 :: st) :=
  fun H locs ls hl hP hD hS => va_copyi (ls := ls) X.hx X.hb (X.hml.trans hl.1.symm) X.hown (X.hts _ hlink) (X.hts _ hnat) (X.hts _ hstat) (X.hts _ hini) X.hK hP hD hS q0 q1 t0 t0 ha0 ha1 ht0 ht0 rfl (fun h => hok (Or.inl h)) (fun h => hok (Or.inr (Or.inl h))) (fun h => hok (Or.inr (Or.inr (Or.inl h)))) (Nat.not_lt.mp fun h => hok (Or.inr (Or.inr (Or.inr (Or.inl h))))) (Nat.not_lt.mp fun h => hok (Or.inr (Or.inr (Or.inr (Or.inr h))))) (fun i _ => rfl) hR.1 (Nat.le_trans (Nat.add_le_add hW (Nat.le_of_ble_eq_true rfl : nativeFrameWords "java/lang/System" "arraycopy" 5 + 11 ≤ 32)) hR.2) hdg (fun H1 locs1 hP1 hD1 hS1 => kk H1 locs1 ls hl (hg ▸ hP1) (hg ▸ hD1) hS1)
theorem tw_mmax (X : Cx p c cc nL s args own m meth D cl tys A) {index : Nat} (hlink : Cond.methodLink own index Lib.Math.max.name ∈ lw_all) (hR : 1 ≤ R.frames ∧ 40 ≤ R.locals) (hc : ce ≤ R.cells ∧ sl ≤ R.slots) (hW : (st.map fun v => v.category).sum ≤ 8) {x y : Int32} (hdg : decode cc pc = .ok (.invokestatic index, 3)) (kk : TW p l e R s m args below meth c Q D cl A Wd nL ce sl g (pc + 3) lv (.int (if x < y then y else x) :: st)) : TW p l e R s m args below meth c Q D cl A Wd nL ce sl g pc lv (.int y :: .int x :: st) :=
  fun H locs ls hl hP hD hS => va_mmax (ls := ls) X.hx X.hb (X.hml.trans hl.1.symm) X.hown (X.hts _ hlink) (X.hts _ q598) (X.hts _ mx_ini) (X.hts _ mx_code) hR.1 (Nat.le_trans (Nat.add_le_add hW (Nat.le_of_ble_eq_true rfl : 13 ≤ 32)) hR.2) hc.1 hc.2 hdg (kk H locs ls hl hP hD hS)
/-- what a contract asks of its world -/
def Ww {σ : Type} (D : va_G) (cl : List vw_C) (tys : List (ClassId × FieldType)) (A : Nat → Prop) (Wd : σ → va_W) (g : σ) (U : State) : Prop := va_P D cl (Wd g) U.heap ∧ va_K D cl tys U ∧ va_D A (Wd g) ∧ (∀ q, U.heap.size ≤ q → A q) ∧ NR A U
def rom (fr lo : Nat) : Room := { frames := fr, cells := 0, slots := 0, locals := lo }
theorem rom_40 {a b : Nat} (h1 : 1 ≤ a) (h2 : 40 ≤ b) : 1 ≤ (rom a b).frames ∧ 40 ≤ (rom a b).locals := ⟨h1, h2⟩
theorem rom_le {fr lo a b L : Nat} (h1 : fr + 1 ≤ a) (h2 : 8 + (L + 11) + lo ≤ b) : fr + 1 ≤ (rom a b).frames ∧ 8 + (L + 11) + lo ≤ (rom a b).locals := ⟨h1, h2⟩
/-- a contract of a method that makes nothing -/
def Ct {σ : Type} (l : Launch) (y : MethodName) (bytes : ByteArray) (L : Nat) (ret : Option FieldType) (fr lo : Nat) (D : va_G) (cl : List vw_C) (tys : List (ClassId × FieldType)) (A : Nat → Prop) (Wd : σ → va_W) (avs : List Value) (g : σ) (Qc : Array Value → State → Outcome → State → Prop) : Prop :=
  Met l y (ws_ y bytes L ret) (rom fr lo) (va_Pc avs (Ww D cl tys A Wd g)) Qc 0 0 A
def BW {σ : Type} (D : va_G) (cl : List vw_C) (A : Nat → Prop) (Wd : σ → va_W) (g' : σ) (t : State) : Prop := va_P D cl (Wd g') t.heap ∧ va_D A (Wd g')
def QI {σ : Type} (D : va_G) (cl : List vw_C) (A : Nat → Prop) (Wd : σ → va_W) (r : Int32) (g' : σ) : Array Value → State → Outcome → State → Prop := va_Qi (fun (x : Int32) (_ : Unit) => x = r) (fun _ t => BW D cl A Wd g' t) A
def QZ {σ : Type} (D : va_G) (cl : List vw_C) (A : Nat → Prop) (Wd : σ → va_W) (r : Int32) (g' : σ) : Array Value → State → Outcome → State → Prop := va_Qi (fun (x : Int32) (_ : Unit) => x = r ∧ zb r) (fun _ t => BW D cl A Wd g' t) A
def QL {σ : Type} (D : va_G) (cl : List vw_C) (A : Nat → Prop) (Wd : σ → va_W) (r : Int64) (g' : σ) : Array Value → State → Outcome → State → Prop := va_Ql (fun (x : Int64) (_ : Unit) => x = r) (fun _ t => BW D cl A Wd g' t) A
def QV {σ : Type} (D : va_G) (cl : List vw_C) (A : Nat → Prop) (Wd : σ → va_W) (g' : σ) : Array Value → State → Outcome → State → Prop := va_Qv (fun (_ : Unit) => True) (fun _ t => BW D cl A Wd g' t) A
theorem tw_idivV (X : Cx p c cc nL s args own m meth D cl tys A) {x y r : Int32} (hdg : decode cc pc = .ok (.idiv, 1)) (h : dv x y = some r) (k : TW p l e R s m args below meth c Q D cl A Wd nL ce sl g (pc + 1) lv (.int r :: st)) : TW p l e R s m args below meth c Q D cl A Wd nL ce sl g pc lv (.int y :: .int x :: st) :=
  tw_idiv X hdg (dv_in h).1 (by rw [(dv_in h).2]; exact k)
theorem tw_iremV (X : Cx p c cc nL s args own m meth D cl tys A) {x y r : Int32} (hdg : decode cc pc = .ok (.irem, 1)) (h : rm x y = some r) (k : TW p l e R s m args below meth c Q D cl A Wd nL ce sl g (pc + 1) lv (.int r :: st)) : TW p l e R s m args below meth c Q D cl A Wd nL ce sl g pc lv (.int y :: .int x :: st) :=
  tw_irem X hdg (rm_in h).1 (by rw [(rm_in h).2]; exact k)
theorem ct_intro {y : MethodName} {bytes : ByteArray} {L : Nat} {ret : Option FieldType} {fr lo : Nat} {avs : List Value} {Qc : Array Value → State → Outcome → State → Prop} {lv0 : List (Nat × Value)} (hy : plainName y.cls = true) (ho : y.cls = own) (hn : (lg_sl avs).length ≤ L) (hlv : lv_args 0 avs = lv0)
    (h : ∀ (p : Program) (e : Env) (s : State) (m : MethodId) (args : Array Value) (below : List Frame) (meth : Method) (c : Code), Cx p c bytes L s args own m meth D cl tys A → meth.sig.returnType = ret → TW p l e (rom fr lo) s m args below meth c (MQ below Qc args s 0 0 A) D cl A Wd L 0 0 g 0 lv0 []) : Ct l y bytes L ret fr lo D cl tys A Wd avs g Qc := by
  refine Met.ofW (cc := bytes) (maxL := L) (ret := ret) hy rfl ?_
  intro p e s m args below meth c s₁ B hml hv
  obtain ⟨rfl, hP, hK, hD, hA, hN⟩ := hv
  have hts := atoms_spec (ws := ws_ y bytes L ret) B.pre
  have hts : ∀ w ∈ lw_all, w.before _ s = true := fun w h => hts w (List.mem_cons_of_mem _ h)
  have hown : s.vm.findClass own = some m.cls := by rw [← ho]; exact findClass_of_methodNamed B.named
  have hl := lv_entry avs (n := L) hn
  rw [hlv] at hl
  rw [lg_entry_eq]
  exact h p e s m _ below meth c ⟨⟨B.exec, B.bytes, hml, hown, hts⟩, hK, hA, B.notSynchronized, hN⟩ B.returns s.heap [] _ hl hP hD va_S.rf
theorem tw_iret (X : Cx p c cc nL s args own m meth D cl tys A) (hr : meth.sig.returnType = some .int) {v r : Int32} {g' : σ} (he : v = r) (hg : g = g') (hdg : decode cc pc = .ok (.ireturn, 1)) : TW p l e R s m args below meth c (MQ below (QI D cl A Wd r g') args s ce sl A) D cl A Wd nL ce sl g pc lv [.int v] := by
  subst he; subst hg
  intro H locs ls hl hP hD hS
  exact W.iret X.hx X.hb hr (fun t ht hW => ⟨⟨_, (), rfl, rfl, by rw [ht]; exact hP, hD⟩, hS.F ht⟩) hS.2.2 hdg X.hlocks
theorem tw_zret (X : Cx p c cc nL s args own m meth D cl tys A) (hr : meth.sig.returnType = some .boolean) {v r : Int32} {g' : σ} (hz : zb v) (he : v = r) (hg : g = g') (hdg : decode cc pc = .ok (.ireturn, 1)) : TW p l e R s m args below meth c (MQ below (QZ D cl A Wd r g') args s ce sl A) D cl A Wd nL ce sl g pc lv [.int v] := by
  subst he; subst hg
  intro H locs ls hl hP hD hS
  exact W.zret X.hx X.hb hr (zb_nar hz) (fun t ht hW => ⟨⟨_, (), rfl, ⟨rfl, hz⟩, by rw [ht]; exact hP, hD⟩, hS.F ht⟩) hS.2.2 hdg X.hlocks
theorem tw_lret (X : Cx p c cc nL s args own m meth D cl tys A) (hr : meth.sig.returnType = some .long) {v r : Int64} {g' : σ} (he : v = r) (hg : g = g') (hdg : decode cc pc = .ok (.lreturn, 1)) : TW p l e R s m args below meth c (MQ below (QL D cl A Wd r g') args s ce sl A) D cl A Wd nL ce sl g pc lv [.long v] := by
  subst he; subst hg
  intro H locs ls hl hP hD hS
  exact W.lret X.hx X.hb hr (fun t ht hW => ⟨⟨_, (), rfl, rfl, by rw [ht]; exact hP, hD⟩, hS.F ht⟩) hS.2.2 hdg X.hlocks
theorem tw_vret (X : Cx p c cc nL s args own m meth D cl tys A) (hr : meth.sig.returnType = none) {g' : σ} (hg : g = g') (hdg : decode cc pc = .ok (.return_, 1)) : TW p l e R s m args below meth c (MQ below (QV D cl A Wd g') args s ce sl A) D cl A Wd nL ce sl g pc lv [] := by
  subst hg
  intro H locs ls hl hP hD hS
  exact W.vret X.hx X.hb hr (fun t ht hW => ⟨⟨(), rfl, trivial, by rw [ht]; exact hP, hD⟩, hS.F ht⟩) hS.2.2 hdg X.hlocks
/-- the same for a method with handlers that aren't come to -/
def CtW {σ : Type} (l : Launch) (y : MethodName) (bytes : ByteArray) (L : Nat) (ret : Option FieldType) (hh : List (Nat × Nat × Nat × Nat)) (fr lo : Nat) (D : va_G) (cl : List vw_C) (tys : List (ClassId × FieldType)) (A : Nat → Prop) (Wd : σ → va_W) (avs : List Value) (g : σ) (Qc : Array Value → State → Outcome → State → Prop) : Prop :=
  Met l y (wsW_ y bytes L ret hh) (rom fr lo) (va_Pc avs (Ww D cl tys A Wd g)) Qc 0 0 A
theorem Met.ofWH {y : MethodName} {ws ws' : List Cond} {rm : Room} {Pc : Array Value → State → Prop} {Qc : Array Value → State → Outcome → State → Prop} {mc ms : Nat} {free : Addr → Prop} {cc : ByteArray} {maxL : Nat} {ret : Option FieldType} {hh : List (Nat × Nat × Nat × Nat)} (hy : plainName y.cls = true) (hw : ws = Cond.codeWith y cc maxL ret hh :: ws')
    (body : ∀ p e s m args below meth c s₁, BodyLoose p l y (headSpec ws rm) cc maxL ret e s m args below meth c s₁ → c.maxLocals = maxL → Pc args s →
      W p l e (headSpec ws rm).room s m args below meth c s.heap [] 0 0 (MQ below Qc args s mc ms free) (entryFrame m args maxL)) : Met l y ws rm Pc Qc mc ms free := by
  refine MetFree.of_bodyS (code := cc) (maxLocals := maxL) (ret := ret) hy ?_ ?_
  · intro args s m h hn
    obtain ⟨m9, meth, c, hn9, h1, h2, h3, h4, -, h5, h6, -⟩ := Cond.codeWith_spec (atoms_spec (ws := ws) h _ (by rw [hw]; exact List.mem_cons_self))
    cases hn.symm.trans hn9
    exact ⟨meth, c, h1, h2, h3, h4, h5, h6⟩
  · intro p e s m args below meth c s₁ B hml hP _
    have hh0 : s₁.heap = s.heap := by rw [B.state]; rfl
    obtain ⟨t, a1, o, b1, b2, b3⟩ := body p e s m args below meth c s₁ B hml hP s₁ hh0 (Stand.of_body B)
    exact ⟨t, o, a1, b1, b2, ⟨b3.1, b3.2⟩⟩
theorem ctW_intro {y : MethodName} {bytes : ByteArray} {L : Nat} {ret : Option FieldType} {hh : List (Nat × Nat × Nat × Nat)} {fr lo : Nat} {avs : List Value} {Qc : Array Value → State → Outcome → State → Prop} {lv0 : List (Nat × Value)} (hy : plainName y.cls = true) (ho : y.cls = own) (hn : (lg_sl avs).length ≤ L) (hlv : lv_args 0 avs = lv0)
    (h : ∀ (p : Program) (e : Env) (s : State) (m : MethodId) (args : Array Value) (below : List Frame) (meth : Method) (c : Code), Cx p c bytes L s args own m meth D cl tys A → meth.sig.returnType = ret → TW p l e (rom fr lo) s m args below meth c (MQ below Qc args s 0 0 A) D cl A Wd L 0 0 g 0 lv0 []) : CtW l y bytes L ret hh fr lo D cl tys A Wd avs g Qc := by
  refine Met.ofWH (cc := bytes) (maxL := L) (ret := ret) (hh := hh) hy rfl ?_
  intro p e s m args below meth c s₁ B hml hv
  obtain ⟨rfl, hP, hK, hD, hA, hN⟩ := hv
  have hts := atoms_spec (ws := wsW_ y bytes L ret hh) B.pre
  have hts : ∀ w ∈ lw_all, w.before _ s = true := fun w h => hts w (List.mem_cons_of_mem _ h)
  have hown : s.vm.findClass own = some m.cls := by rw [← ho]; exact findClass_of_methodNamed B.named
  have hl := lv_entry avs (n := L) hn
  rw [hlv] at hl
  rw [lg_entry_eq]
  exact h p e s m _ below meth c ⟨⟨B.exec, B.bytes, hml, hown, hts⟩, hK, hA, B.notSynchronized, hN⟩ B.returns s.heap [] _ hl hP hD va_S.rf
theorem lw_U {own : String} {idx : Nat} {C owner : String} {x y : MethodName} {b : ByteArray} {L : Nat} {r : Option FieldType} (h1 : Cond.methodLink own idx x ∈ lw_all) (h2 : Cond.sameMethod x.cls owner x.name x.desc ∈ lw_all) (h3 : Cond.selects C x y ∈ lw_all) (h4 : Cond.instanceMethod y ∈ lw_all) (h5 : Cond.initialized y.cls ∈ lw_all) (h6 : Cond.code y b L r ∈ lw_all) : GoodIn lw_all (va_wsU own idx C owner x y (ws_ y b L r)) := by
  refine lw_app ?_ (lw_meth h6)
  intro w hw
  simp only [List.mem_cons, List.not_mem_nil, or_false] at hw
  rcases hw with e | e | e | e | e <;> (rw [e]; assumption)
theorem lw_O {own : String} {idx : Nat} {C owner : String} {x y : MethodName} {b : ByteArray} {L : Nat} {r : Option FieldType} (h1 : Cond.methodLink own idx x ∈ lw_all) (h2 : Cond.sameMethod x.cls owner x.name x.desc ∈ lw_all) (h0 : Cond.instanceMethod ⟨owner, x.name, x.desc⟩ ∈ lw_all) (h3 : Cond.selects C x y ∈ lw_all) (h4 : Cond.instanceMethod y ∈ lw_all) (h5 : Cond.initialized y.cls ∈ lw_all) (h6 : Cond.code y b L r ∈ lw_all) : GoodIn lw_all (va_wsO own idx C owner x y (ws_ y b L r)) := by
  refine lw_app ?_ (lw_meth h6)
  intro w hw
  simp only [List.mem_cons, List.not_mem_nil, or_false] at hw
  rcases hw with e | e | e | e | e | e <;> (rw [e]; assumption)
theorem lw_SU {own : String} {idx : Nat} {y : MethodName} {b : ByteArray} {L : Nat} {r : Option FieldType} (h1 : Cond.methodLink own idx y ∈ lw_all) (h2 : Cond.sameMethod y.cls y.cls y.name y.desc ∈ lw_all) (h3 : Cond.superclass own y.cls ∈ lw_all) (h4 : Cond.instanceMethod y ∈ lw_all) (h5 : Cond.initialized y.cls ∈ lw_all) (h6 : Cond.code y b L r ∈ lw_all) : GoodIn lw_all (va_wsSU own idx y (ws_ y b L r)) := by
  refine lw_app ?_ (lw_meth h6)
  intro w hw
  simp only [List.mem_cons, List.not_mem_nil, or_false] at hw
  rcases hw with e | e | e | e | e <;> (rw [e]; assumption)
theorem lw_F {own : String} {idx : Nat} {C : String} {x y : MethodName} {b : ByteArray} {L : Nat} {r : Option FieldType} (h1 : Cond.methodLink own idx x ∈ lw_all) (h3 : Cond.selects C x y ∈ lw_all) (h4 : Cond.instanceMethod y ∈ lw_all) (h5 : Cond.initialized y.cls ∈ lw_all) (h6 : Cond.code y b L r ∈ lw_all) : GoodIn lw_all (va_wsF own idx C x y (ws_ y b L r)) := by
  refine lw_app ?_ (lw_meth h6)
  intro w hw
  simp only [List.mem_cons, List.not_mem_nil, or_false] at hw
  rcases hw with e | e | e | e <;> (rw [e]; assumption)
theorem Ww.blind {avs : List Value} : FrameBlind (va_Pc avs (Ww D cl tys A Wd g)) := fun a U g0 mk q => by
  obtain ⟨q0, qP, qK, qD, qA, qN⟩ := q
  exact ⟨q0, qP, va_K.moved (u := U) (U := U.calling g0 mk a) (Vm.Alike.refl U.vm) qK, qD, qA, qN.calling⟩
theorem Ww.at {H : Heap} {locs : List Loc} {avs : List Value} (hK : va_K D cl tys s) (hP : va_P D cl (Wd g) H) (hD : va_D A (Wd g)) (hS : va_S A s.heap H locs) (hA : ∀ q, s.heap.size ≤ q → A q) (hN : NR A s) : ∀ U : State, U.heap = H → s.WarmedH U.vm → va_Pc avs (Ww D cl tys A Wd g) avs.toArray U := fun U hU hW =>
  ⟨rfl, by rw [hU]; exact hP, va_K.moved hW.alike hK, hD, fun q h => hA q (Nat.le_trans hS.1 (by rw [hU] at h; exact h)), hN.step hS hU hW⟩
theorem tw_callVi (X : Cx p c cc nL s args own m meth D cl tys A) {σ' : Type} {Wd' : σ' → va_W} {y : MethodName} {bytes : ByteArray} {L : Nat} {ret : Option FieldType} {fr lo n index : Nat} {g' : σ'} {r : Int32} {C : String} {As : List Value} {b : Nat} {st0 : List Value} (hM : Ct l y bytes L ret fr lo D cl tys A Wd (.ref b :: As) g (QI D cl A Wd' r g')) (hw : GoodIn lw_all (wsV own index C y (ws_ y bytes L ret))) (hd : y.cls = C ∧ y.cls ≠ "java/lang/invoke/MethodHandle" ∧ y.cls ≠ "java/lang/invoke/VarHandle" ∧ (parseMethodDescriptor y.desc).map (fun d => d.parameters.length) = some n) (hR : fr + 1 ≤ R.frames ∧ 8 + (L + 11) + lo ≤ R.locals) (hc : ce ≤ R.cells ∧ sl ≤ R.slots) (q0 : Nat) {ci : Nat} {fs : List Value} {T : u_T} {N : Nat} (he : (Wd g)[q0]? = some (b, .inr (ci, fs))) (hcl : cl[ci]? = some (C, T, N)) (hn : As.length = n) (hst : st0 = As.reverse ++ .ref b :: st) (hW : (st.map fun v => v.category).sum ≤ 8) (hdg : decode cc pc = .ok (.invokevirtual index, 3)) (kk : TW p l e R s m args below meth c Q D cl A Wd' nL ce sl g' (pc + 3) lv (.int r :: st)) : TW p l e R s m args below meth c Q D cl A Wd nL ce sl g pc lv st0 :=
  fun H locs ls hl hP hD hS => va_calli (va_runV (As := As) (rest := st) (b := b) (C := C) X.1 hM (cwV n X.hts hw rfl rfl rfl hd hR) ⟨Ww.blind, va_recv X.hK hP (ci := ci) (q0 := q0) hcl he, Ww.at X.hK hP hD hS X.hA X.hN⟩ rfl hn hl.1 hst (lv_room hW) hdg hc) hS (fun q _ h => h) (fun q h => h) (fun r1 u t H1 locs1 ht hvm hr1 hB hz1 hk1 hS1 => by have e1 : r1 = r := hr1; subst e1; exact kk H1 locs1 ls hl (by rw [← ht]; exact hB.1) hB.2 hS1)
theorem tw_callSi (X : Cx p c cc nL s args own m meth D cl tys A) {σ' : Type} {Wd' : σ' → va_W} {y : MethodName} {bytes : ByteArray} {L : Nat} {ret : Option FieldType} {fr lo n index : Nat} {g' : σ'} {r : Int32} {As : List Value} {st0 : List Value} (hM : Ct l y bytes L ret fr lo D cl tys A Wd As g (QI D cl A Wd' r g')) (hw : GoodIn lw_all (va_wsS own index y (ws_ y bytes L ret))) (hd : y.cls ≠ "java/lang/invoke/MethodHandle" ∧ y.cls ≠ "java/lang/invoke/VarHandle" ∧ (parseMethodDescriptor y.desc).map (fun d => d.parameters.length) = some n) (hR : fr + 1 ≤ R.frames ∧ 8 + (L + 11) + lo ≤ R.locals) (hc : ce ≤ R.cells ∧ sl ≤ R.slots) (hn : As.length = n) (hst : st0 = As.reverse ++ st) (hW : (st.map fun v => v.category).sum ≤ 8) (hdg : decode cc pc = .ok (.invokestatic index, 3)) (kk : TW p l e R s m args below meth c Q D cl A Wd' nL ce sl g' (pc + 3) lv (.int r :: st)) : TW p l e R s m args below meth c Q D cl A Wd nL ce sl g pc lv st0 :=
  fun H locs ls hl hP hD hS => va_calli (va_runS (As := As) (rest := st) X.1 hM (va_cwS n X.hts hw rfl rfl rfl hd hR) ⟨Ww.blind, Ww.at X.hK hP hD hS X.hA X.hN⟩ rfl hn hl.1 hst (lv_room hW) hdg hc) hS (fun q _ h => h) (fun q h => h) (fun r1 u t H1 locs1 ht hvm hr1 hB hz1 hk1 hS1 => by have e1 : r1 = r := hr1; subst e1; exact kk H1 locs1 ls hl (by rw [← ht]; exact hB.1) hB.2 hS1)
theorem tw_callUi (X : Cx p c cc nL s args own m meth D cl tys A) {σ' : Type} {Wd' : σ' → va_W} {y : MethodName} {bytes : ByteArray} {L : Nat} {ret : Option FieldType} {fr lo n index : Nat} {g' : σ'} {r : Int32} {C owner : String} {x : MethodName} {As : List Value} {b : Nat} {st0 : List Value} (hM : Ct l y bytes L ret fr lo D cl tys A Wd (.ref b :: As) g (QI D cl A Wd' r g')) (cw : va_CU R s args own C owner index x y bytes L ret (ws_ y bytes L ret) (rom fr lo) 0 0 n) (hc : ce ≤ R.cells ∧ sl ≤ R.slots) (q0 : Nat) {ci : Nat} {fs : List Value} {T : u_T} {N : Nat} (he : (Wd g)[q0]? = some (b, .inr (ci, fs))) (hcl : cl[ci]? = some (C, T, N)) (hn : As.length = n) (hst : st0 = As.reverse ++ .ref b :: st) (hW : (st.map fun v => v.category).sum ≤ 8) (hdg : decode cc pc = .ok (.invokevirtual index, 3)) (kk : TW p l e R s m args below meth c Q D cl A Wd' nL ce sl g' (pc + 3) lv (.int r :: st)) : TW p l e R s m args below meth c Q D cl A Wd nL ce sl g pc lv st0 :=
  fun H locs ls hl hP hD hS => va_calli (va_runU (As := As) (rest := st) (b := b) (C := C) X.1 hM cw ⟨Ww.blind, va_recv X.hK hP (ci := ci) (q0 := q0) hcl he, Ww.at X.hK hP hD hS X.hA X.hN⟩ rfl hn hl.1 hst (lv_room hW) hdg hc) hS (fun q _ h => h) (fun q h => h) (fun r1 u t H1 locs1 ht hvm hr1 hB hz1 hk1 hS1 => by have e1 : r1 = r := hr1; subst e1; exact kk H1 locs1 ls hl (by rw [← ht]; exact hB.1) hB.2 hS1)
theorem tw_callSUi (X : Cx p c cc nL s args own m meth D cl tys A) {σ' : Type} {Wd' : σ' → va_W} {y : MethodName} {bytes : ByteArray} {L : Nat} {ret : Option FieldType} {fr lo n index : Nat} {g' : σ'} {r : Int32} {C : String} {As : List Value} {b : Nat} {st0 : List Value} (hM : Ct l y bytes L ret fr lo D cl tys A Wd (.ref b :: As) g (QI D cl A Wd' r g')) (cw : va_CS R s args own index y bytes L ret (ws_ y bytes L ret) (rom fr lo) 0 0 n) (hc : ce ≤ R.cells ∧ sl ≤ R.slots) (q0 : Nat) {ci : Nat} {fs : List Value} {T : u_T} {N : Nat} (he : (Wd g)[q0]? = some (b, .inr (ci, fs))) (hcl : cl[ci]? = some (C, T, N)) (hn : As.length = n) (hst : st0 = As.reverse ++ .ref b :: st) (hW : (st.map fun v => v.category).sum ≤ 8) (hdg : decode cc pc = .ok (.invokespecial index, 3)) (kk : TW p l e R s m args below meth c Q D cl A Wd' nL ce sl g' (pc + 3) lv (.int r :: st)) : TW p l e R s m args below meth c Q D cl A Wd nL ce sl g pc lv st0 :=
  fun H locs ls hl hP hD hS => va_calli (va_runSU (As := As) (rest := st) (b := b) (C := C) (X.hK.1 ci _ hcl).2 X.1 hM cw ⟨Ww.blind, va_recv X.hK hP (ci := ci) (q0 := q0) hcl he, Ww.at X.hK hP hD hS X.hA X.hN⟩ rfl hn hl.1 hst (lv_room hW) hdg hc) hS (fun q _ h => h) (fun q h => h) (fun r1 u t H1 locs1 ht hvm hr1 hB hz1 hk1 hS1 => by have e1 : r1 = r := hr1; subst e1; exact kk H1 locs1 ls hl (by rw [← ht]; exact hB.1) hB.2 hS1)
theorem tw_callSNi (X : Cx p c cc nL s args own m meth D cl tys A) {σ' : Type} {Wd' : σ' → va_W} {y : MethodName} {bytes : ByteArray} {L : Nat} {ret : Option FieldType} {fr lo n index : Nat} {g' : σ'} {r : Int32} {host : String} {As : List Value} {st0 : List Value} (hM : Ct l y bytes L ret fr lo D cl tys A Wd As g (QI D cl A Wd' r g')) (cw : va_CN R s args own index y host bytes L ret (ws_ y bytes L ret) (rom fr lo) 0 0 n) (hstt : Cond.static y ∈ lw_all) (hc : ce ≤ R.cells ∧ sl ≤ R.slots) (hn : As.length = n) (hst : st0 = As.reverse ++ st) (hW : (st.map fun v => v.category).sum ≤ 8) (hdg : decode cc pc = .ok (.invokestatic index, 3)) (kk : TW p l e R s m args below meth c Q D cl A Wd' nL ce sl g' (pc + 3) lv (.int r :: st)) : TW p l e R s m args below meth c Q D cl A Wd nL ce sl g pc lv st0 :=
  fun H locs ls hl hP hD hS => va_calli (va_runSN (As := As) (rest := st) X.1 hM ⟨cw, X.hts _ hstt, trivial⟩ ⟨Ww.blind, Ww.at X.hK hP hD hS X.hA X.hN⟩ rfl hn hl.1 hst (lv_room hW) hdg hc) hS (fun q _ h => h) (fun q h => h) (fun r1 u t H1 locs1 ht hvm hr1 hB hz1 hk1 hS1 => by have e1 : r1 = r := hr1; subst e1; exact kk H1 locs1 ls hl (by rw [← ht]; exact hB.1) hB.2 hS1)
theorem tw_callFi (X : Cx p c cc nL s args own m meth D cl tys A) {σ' : Type} {Wd' : σ' → va_W} {y : MethodName} {bytes : ByteArray} {L : Nat} {ret : Option FieldType} {fr lo n index : Nat} {g' : σ'} {r : Int32} {C : String} {x : MethodName} {count : Nat} {As : List Value} {b : Nat} {st0 : List Value} (hM : Ct l y bytes L ret fr lo D cl tys A Wd (.ref b :: As) g (QI D cl A Wd' r g')) (cw : va_CI R s args own C index x y bytes L ret (ws_ y bytes L ret) (rom fr lo) 0 0 n) (hc : ce ≤ R.cells ∧ sl ≤ R.slots) (q0 : Nat) {ci : Nat} {fs : List Value} {T : u_T} {N : Nat} (he : (Wd g)[q0]? = some (b, .inr (ci, fs))) (hcl : cl[ci]? = some (C, T, N)) (hn : As.length = n) (hst : st0 = As.reverse ++ .ref b :: st) (hW : (st.map fun v => v.category).sum ≤ 8) (hdg : decode cc pc = .ok (.invokeinterface index count, 5)) (kk : TW p l e R s m args below meth c Q D cl A Wd' nL ce sl g' (pc + 5) lv (.int r :: st)) : TW p l e R s m args below meth c Q D cl A Wd nL ce sl g pc lv st0 :=
  fun H locs ls hl hP hD hS => va_callFi (va_runF (As := As) (rest := st) (b := b) (C := C) (X.hK.1 ci _ hcl).2 X.1 hM cw ⟨Ww.blind, va_recv X.hK hP (ci := ci) (q0 := q0) hcl he, Ww.at X.hK hP hD hS X.hA X.hN⟩ rfl hn hl.1 hst (lv_room hW) hdg hc) hS (fun q _ h => h) (fun q h => h) (fun r1 u t H1 locs1 ht hvm hr1 hB hz1 hk1 hS1 => by have e1 : r1 = r := hr1; subst e1; exact kk H1 locs1 ls hl (by rw [← ht]; exact hB.1) hB.2 hS1)
theorem tw_callVz (X : Cx p c cc nL s args own m meth D cl tys A) {σ' : Type} {Wd' : σ' → va_W} {y : MethodName} {bytes : ByteArray} {L : Nat} {ret : Option FieldType} {fr lo n index : Nat} {g' : σ'} {r : Int32} {C : String} {As : List Value} {b : Nat} {st0 : List Value} (hM : Ct l y bytes L ret fr lo D cl tys A Wd (.ref b :: As) g (QZ D cl A Wd' r g')) (hw : GoodIn lw_all (wsV own index C y (ws_ y bytes L ret))) (hd : y.cls = C ∧ y.cls ≠ "java/lang/invoke/MethodHandle" ∧ y.cls ≠ "java/lang/invoke/VarHandle" ∧ (parseMethodDescriptor y.desc).map (fun d => d.parameters.length) = some n) (hR : fr + 1 ≤ R.frames ∧ 8 + (L + 11) + lo ≤ R.locals) (hc : ce ≤ R.cells ∧ sl ≤ R.slots) (q0 : Nat) {ci : Nat} {fs : List Value} {T : u_T} {N : Nat} (he : (Wd g)[q0]? = some (b, .inr (ci, fs))) (hcl : cl[ci]? = some (C, T, N)) (hn : As.length = n) (hst : st0 = As.reverse ++ .ref b :: st) (hW : (st.map fun v => v.category).sum ≤ 8) (hdg : decode cc pc = .ok (.invokevirtual index, 3)) (kk : zb r → TW p l e R s m args below meth c Q D cl A Wd' nL ce sl g' (pc + 3) lv (.int r :: st)) : TW p l e R s m args below meth c Q D cl A Wd nL ce sl g pc lv st0 :=
  fun H locs ls hl hP hD hS => va_calli (va_runV (As := As) (rest := st) (b := b) (C := C) X.1 hM (cwV n X.hts hw rfl rfl rfl hd hR) ⟨Ww.blind, va_recv X.hK hP (ci := ci) (q0 := q0) hcl he, Ww.at X.hK hP hD hS X.hA X.hN⟩ rfl hn hl.1 hst (lv_room hW) hdg hc) hS (fun q _ h => h) (fun q h => h) (fun r1 u t H1 locs1 ht hvm hr1 hB hz1 hk1 hS1 => by obtain ⟨e1, e2⟩ := hr1; subst e1; exact kk e2 H1 locs1 ls hl (by rw [← ht]; exact hB.1) hB.2 hS1)
theorem tw_callSz (X : Cx p c cc nL s args own m meth D cl tys A) {σ' : Type} {Wd' : σ' → va_W} {y : MethodName} {bytes : ByteArray} {L : Nat} {ret : Option FieldType} {fr lo n index : Nat} {g' : σ'} {r : Int32} {As : List Value} {st0 : List Value} (hM : Ct l y bytes L ret fr lo D cl tys A Wd As g (QZ D cl A Wd' r g')) (hw : GoodIn lw_all (va_wsS own index y (ws_ y bytes L ret))) (hd : y.cls ≠ "java/lang/invoke/MethodHandle" ∧ y.cls ≠ "java/lang/invoke/VarHandle" ∧ (parseMethodDescriptor y.desc).map (fun d => d.parameters.length) = some n) (hR : fr + 1 ≤ R.frames ∧ 8 + (L + 11) + lo ≤ R.locals) (hc : ce ≤ R.cells ∧ sl ≤ R.slots) (hn : As.length = n) (hst : st0 = As.reverse ++ st) (hW : (st.map fun v => v.category).sum ≤ 8) (hdg : decode cc pc = .ok (.invokestatic index, 3)) (kk : zb r → TW p l e R s m args below meth c Q D cl A Wd' nL ce sl g' (pc + 3) lv (.int r :: st)) : TW p l e R s m args below meth c Q D cl A Wd nL ce sl g pc lv st0 :=
  fun H locs ls hl hP hD hS => va_calli (va_runS (As := As) (rest := st) X.1 hM (va_cwS n X.hts hw rfl rfl rfl hd hR) ⟨Ww.blind, Ww.at X.hK hP hD hS X.hA X.hN⟩ rfl hn hl.1 hst (lv_room hW) hdg hc) hS (fun q _ h => h) (fun q h => h) (fun r1 u t H1 locs1 ht hvm hr1 hB hz1 hk1 hS1 => by obtain ⟨e1, e2⟩ := hr1; subst e1; exact kk e2 H1 locs1 ls hl (by rw [← ht]; exact hB.1) hB.2 hS1)
theorem tw_callUz (X : Cx p c cc nL s args own m meth D cl tys A) {σ' : Type} {Wd' : σ' → va_W} {y : MethodName} {bytes : ByteArray} {L : Nat} {ret : Option FieldType} {fr lo n index : Nat} {g' : σ'} {r : Int32} {C owner : String} {x : MethodName} {As : List Value} {b : Nat} {st0 : List Value} (hM : Ct l y bytes L ret fr lo D cl tys A Wd (.ref b :: As) g (QZ D cl A Wd' r g')) (cw : va_CU R s args own C owner index x y bytes L ret (ws_ y bytes L ret) (rom fr lo) 0 0 n) (hc : ce ≤ R.cells ∧ sl ≤ R.slots) (q0 : Nat) {ci : Nat} {fs : List Value} {T : u_T} {N : Nat} (he : (Wd g)[q0]? = some (b, .inr (ci, fs))) (hcl : cl[ci]? = some (C, T, N)) (hn : As.length = n) (hst : st0 = As.reverse ++ .ref b :: st) (hW : (st.map fun v => v.category).sum ≤ 8) (hdg : decode cc pc = .ok (.invokevirtual index, 3)) (kk : zb r → TW p l e R s m args below meth c Q D cl A Wd' nL ce sl g' (pc + 3) lv (.int r :: st)) : TW p l e R s m args below meth c Q D cl A Wd nL ce sl g pc lv st0 :=
  fun H locs ls hl hP hD hS => va_calli (va_runU (As := As) (rest := st) (b := b) (C := C) X.1 hM cw ⟨Ww.blind, va_recv X.hK hP (ci := ci) (q0 := q0) hcl he, Ww.at X.hK hP hD hS X.hA X.hN⟩ rfl hn hl.1 hst (lv_room hW) hdg hc) hS (fun q _ h => h) (fun q h => h) (fun r1 u t H1 locs1 ht hvm hr1 hB hz1 hk1 hS1 => by obtain ⟨e1, e2⟩ := hr1; subst e1; exact kk e2 H1 locs1 ls hl (by rw [← ht]; exact hB.1) hB.2 hS1)
theorem tw_callSUz (X : Cx p c cc nL s args own m meth D cl tys A) {σ' : Type} {Wd' : σ' → va_W} {y : MethodName} {bytes : ByteArray} {L : Nat} {ret : Option FieldType} {fr lo n index : Nat} {g' : σ'} {r : Int32} {C : String} {As : List Value} {b : Nat} {st0 : List Value} (hM : Ct l y bytes L ret fr lo D cl tys A Wd (.ref b :: As) g (QZ D cl A Wd' r g')) (cw : va_CS R s args own index y bytes L ret (ws_ y bytes L ret) (rom fr lo) 0 0 n) (hc : ce ≤ R.cells ∧ sl ≤ R.slots) (q0 : Nat) {ci : Nat} {fs : List Value} {T : u_T} {N : Nat} (he : (Wd g)[q0]? = some (b, .inr (ci, fs))) (hcl : cl[ci]? = some (C, T, N)) (hn : As.length = n) (hst : st0 = As.reverse ++ .ref b :: st) (hW : (st.map fun v => v.category).sum ≤ 8) (hdg : decode cc pc = .ok (.invokespecial index, 3)) (kk : zb r → TW p l e R s m args below meth c Q D cl A Wd' nL ce sl g' (pc + 3) lv (.int r :: st)) : TW p l e R s m args below meth c Q D cl A Wd nL ce sl g pc lv st0 :=
  fun H locs ls hl hP hD hS => va_calli (va_runSU (As := As) (rest := st) (b := b) (C := C) (X.hK.1 ci _ hcl).2 X.1 hM cw ⟨Ww.blind, va_recv X.hK hP (ci := ci) (q0 := q0) hcl he, Ww.at X.hK hP hD hS X.hA X.hN⟩ rfl hn hl.1 hst (lv_room hW) hdg hc) hS (fun q _ h => h) (fun q h => h) (fun r1 u t H1 locs1 ht hvm hr1 hB hz1 hk1 hS1 => by obtain ⟨e1, e2⟩ := hr1; subst e1; exact kk e2 H1 locs1 ls hl (by rw [← ht]; exact hB.1) hB.2 hS1)
theorem tw_callSNz (X : Cx p c cc nL s args own m meth D cl tys A) {σ' : Type} {Wd' : σ' → va_W} {y : MethodName} {bytes : ByteArray} {L : Nat} {ret : Option FieldType} {fr lo n index : Nat} {g' : σ'} {r : Int32} {host : String} {As : List Value} {st0 : List Value} (hM : Ct l y bytes L ret fr lo D cl tys A Wd As g (QZ D cl A Wd' r g')) (cw : va_CN R s args own index y host bytes L ret (ws_ y bytes L ret) (rom fr lo) 0 0 n) (hstt : Cond.static y ∈ lw_all) (hc : ce ≤ R.cells ∧ sl ≤ R.slots) (hn : As.length = n) (hst : st0 = As.reverse ++ st) (hW : (st.map fun v => v.category).sum ≤ 8) (hdg : decode cc pc = .ok (.invokestatic index, 3)) (kk : zb r → TW p l e R s m args below meth c Q D cl A Wd' nL ce sl g' (pc + 3) lv (.int r :: st)) : TW p l e R s m args below meth c Q D cl A Wd nL ce sl g pc lv st0 :=
  fun H locs ls hl hP hD hS => va_calli (va_runSN (As := As) (rest := st) X.1 hM ⟨cw, X.hts _ hstt, trivial⟩ ⟨Ww.blind, Ww.at X.hK hP hD hS X.hA X.hN⟩ rfl hn hl.1 hst (lv_room hW) hdg hc) hS (fun q _ h => h) (fun q h => h) (fun r1 u t H1 locs1 ht hvm hr1 hB hz1 hk1 hS1 => by obtain ⟨e1, e2⟩ := hr1; subst e1; exact kk e2 H1 locs1 ls hl (by rw [← ht]; exact hB.1) hB.2 hS1)
theorem tw_callFz (X : Cx p c cc nL s args own m meth D cl tys A) {σ' : Type} {Wd' : σ' → va_W} {y : MethodName} {bytes : ByteArray} {L : Nat} {ret : Option FieldType} {fr lo n index : Nat} {g' : σ'} {r : Int32} {C : String} {x : MethodName} {count : Nat} {As : List Value} {b : Nat} {st0 : List Value} (hM : Ct l y bytes L ret fr lo D cl tys A Wd (.ref b :: As) g (QZ D cl A Wd' r g')) (cw : va_CI R s args own C index x y bytes L ret (ws_ y bytes L ret) (rom fr lo) 0 0 n) (hc : ce ≤ R.cells ∧ sl ≤ R.slots) (q0 : Nat) {ci : Nat} {fs : List Value} {T : u_T} {N : Nat} (he : (Wd g)[q0]? = some (b, .inr (ci, fs))) (hcl : cl[ci]? = some (C, T, N)) (hn : As.length = n) (hst : st0 = As.reverse ++ .ref b :: st) (hW : (st.map fun v => v.category).sum ≤ 8) (hdg : decode cc pc = .ok (.invokeinterface index count, 5)) (kk : zb r → TW p l e R s m args below meth c Q D cl A Wd' nL ce sl g' (pc + 5) lv (.int r :: st)) : TW p l e R s m args below meth c Q D cl A Wd nL ce sl g pc lv st0 :=
  fun H locs ls hl hP hD hS => va_callFi (va_runF (As := As) (rest := st) (b := b) (C := C) (X.hK.1 ci _ hcl).2 X.1 hM cw ⟨Ww.blind, va_recv X.hK hP (ci := ci) (q0 := q0) hcl he, Ww.at X.hK hP hD hS X.hA X.hN⟩ rfl hn hl.1 hst (lv_room hW) hdg hc) hS (fun q _ h => h) (fun q h => h) (fun r1 u t H1 locs1 ht hvm hr1 hB hz1 hk1 hS1 => by obtain ⟨e1, e2⟩ := hr1; subst e1; exact kk e2 H1 locs1 ls hl (by rw [← ht]; exact hB.1) hB.2 hS1)
theorem tw_callVl (X : Cx p c cc nL s args own m meth D cl tys A) {σ' : Type} {Wd' : σ' → va_W} {y : MethodName} {bytes : ByteArray} {L : Nat} {ret : Option FieldType} {fr lo n index : Nat} {g' : σ'} {r : Int64} {C : String} {As : List Value} {b : Nat} {st0 : List Value} (hM : Ct l y bytes L ret fr lo D cl tys A Wd (.ref b :: As) g (QL D cl A Wd' r g')) (hw : GoodIn lw_all (wsV own index C y (ws_ y bytes L ret))) (hd : y.cls = C ∧ y.cls ≠ "java/lang/invoke/MethodHandle" ∧ y.cls ≠ "java/lang/invoke/VarHandle" ∧ (parseMethodDescriptor y.desc).map (fun d => d.parameters.length) = some n) (hR : fr + 1 ≤ R.frames ∧ 8 + (L + 11) + lo ≤ R.locals) (hc : ce ≤ R.cells ∧ sl ≤ R.slots) (q0 : Nat) {ci : Nat} {fs : List Value} {T : u_T} {N : Nat} (he : (Wd g)[q0]? = some (b, .inr (ci, fs))) (hcl : cl[ci]? = some (C, T, N)) (hn : As.length = n) (hst : st0 = As.reverse ++ .ref b :: st) (hW : (st.map fun v => v.category).sum ≤ 8) (hdg : decode cc pc = .ok (.invokevirtual index, 3)) (kk : TW p l e R s m args below meth c Q D cl A Wd' nL ce sl g' (pc + 3) lv (.long r :: st)) : TW p l e R s m args below meth c Q D cl A Wd nL ce sl g pc lv st0 :=
  fun H locs ls hl hP hD hS => va_calll (va_runV (As := As) (rest := st) (b := b) (C := C) X.1 hM (cwV n X.hts hw rfl rfl rfl hd hR) ⟨Ww.blind, va_recv X.hK hP (ci := ci) (q0 := q0) hcl he, Ww.at X.hK hP hD hS X.hA X.hN⟩ rfl hn hl.1 hst (lv_room hW) hdg hc) hS (fun q _ h => h) (fun q h => h) (fun r1 u t H1 locs1 ht hvm hr1 hB hz1 hk1 hS1 => by have e1 : r1 = r := hr1; subst e1; exact kk H1 locs1 ls hl (by rw [← ht]; exact hB.1) hB.2 hS1)
theorem tw_callSl (X : Cx p c cc nL s args own m meth D cl tys A) {σ' : Type} {Wd' : σ' → va_W} {y : MethodName} {bytes : ByteArray} {L : Nat} {ret : Option FieldType} {fr lo n index : Nat} {g' : σ'} {r : Int64} {As : List Value} {st0 : List Value} (hM : Ct l y bytes L ret fr lo D cl tys A Wd As g (QL D cl A Wd' r g')) (hw : GoodIn lw_all (va_wsS own index y (ws_ y bytes L ret))) (hd : y.cls ≠ "java/lang/invoke/MethodHandle" ∧ y.cls ≠ "java/lang/invoke/VarHandle" ∧ (parseMethodDescriptor y.desc).map (fun d => d.parameters.length) = some n) (hR : fr + 1 ≤ R.frames ∧ 8 + (L + 11) + lo ≤ R.locals) (hc : ce ≤ R.cells ∧ sl ≤ R.slots) (hn : As.length = n) (hst : st0 = As.reverse ++ st) (hW : (st.map fun v => v.category).sum ≤ 8) (hdg : decode cc pc = .ok (.invokestatic index, 3)) (kk : TW p l e R s m args below meth c Q D cl A Wd' nL ce sl g' (pc + 3) lv (.long r :: st)) : TW p l e R s m args below meth c Q D cl A Wd nL ce sl g pc lv st0 :=
  fun H locs ls hl hP hD hS => va_calll (va_runS (As := As) (rest := st) X.1 hM (va_cwS n X.hts hw rfl rfl rfl hd hR) ⟨Ww.blind, Ww.at X.hK hP hD hS X.hA X.hN⟩ rfl hn hl.1 hst (lv_room hW) hdg hc) hS (fun q _ h => h) (fun q h => h) (fun r1 u t H1 locs1 ht hvm hr1 hB hz1 hk1 hS1 => by have e1 : r1 = r := hr1; subst e1; exact kk H1 locs1 ls hl (by rw [← ht]; exact hB.1) hB.2 hS1)
theorem tw_callUl (X : Cx p c cc nL s args own m meth D cl tys A) {σ' : Type} {Wd' : σ' → va_W} {y : MethodName} {bytes : ByteArray} {L : Nat} {ret : Option FieldType} {fr lo n index : Nat} {g' : σ'} {r : Int64} {C owner : String} {x : MethodName} {As : List Value} {b : Nat} {st0 : List Value} (hM : Ct l y bytes L ret fr lo D cl tys A Wd (.ref b :: As) g (QL D cl A Wd' r g')) (cw : va_CU R s args own C owner index x y bytes L ret (ws_ y bytes L ret) (rom fr lo) 0 0 n) (hc : ce ≤ R.cells ∧ sl ≤ R.slots) (q0 : Nat) {ci : Nat} {fs : List Value} {T : u_T} {N : Nat} (he : (Wd g)[q0]? = some (b, .inr (ci, fs))) (hcl : cl[ci]? = some (C, T, N)) (hn : As.length = n) (hst : st0 = As.reverse ++ .ref b :: st) (hW : (st.map fun v => v.category).sum ≤ 8) (hdg : decode cc pc = .ok (.invokevirtual index, 3)) (kk : TW p l e R s m args below meth c Q D cl A Wd' nL ce sl g' (pc + 3) lv (.long r :: st)) : TW p l e R s m args below meth c Q D cl A Wd nL ce sl g pc lv st0 :=
  fun H locs ls hl hP hD hS => va_calll (va_runU (As := As) (rest := st) (b := b) (C := C) X.1 hM cw ⟨Ww.blind, va_recv X.hK hP (ci := ci) (q0 := q0) hcl he, Ww.at X.hK hP hD hS X.hA X.hN⟩ rfl hn hl.1 hst (lv_room hW) hdg hc) hS (fun q _ h => h) (fun q h => h) (fun r1 u t H1 locs1 ht hvm hr1 hB hz1 hk1 hS1 => by have e1 : r1 = r := hr1; subst e1; exact kk H1 locs1 ls hl (by rw [← ht]; exact hB.1) hB.2 hS1)
theorem tw_callSUl (X : Cx p c cc nL s args own m meth D cl tys A) {σ' : Type} {Wd' : σ' → va_W} {y : MethodName} {bytes : ByteArray} {L : Nat} {ret : Option FieldType} {fr lo n index : Nat} {g' : σ'} {r : Int64} {C : String} {As : List Value} {b : Nat} {st0 : List Value} (hM : Ct l y bytes L ret fr lo D cl tys A Wd (.ref b :: As) g (QL D cl A Wd' r g')) (cw : va_CS R s args own index y bytes L ret (ws_ y bytes L ret) (rom fr lo) 0 0 n) (hc : ce ≤ R.cells ∧ sl ≤ R.slots) (q0 : Nat) {ci : Nat} {fs : List Value} {T : u_T} {N : Nat} (he : (Wd g)[q0]? = some (b, .inr (ci, fs))) (hcl : cl[ci]? = some (C, T, N)) (hn : As.length = n) (hst : st0 = As.reverse ++ .ref b :: st) (hW : (st.map fun v => v.category).sum ≤ 8) (hdg : decode cc pc = .ok (.invokespecial index, 3)) (kk : TW p l e R s m args below meth c Q D cl A Wd' nL ce sl g' (pc + 3) lv (.long r :: st)) : TW p l e R s m args below meth c Q D cl A Wd nL ce sl g pc lv st0 :=
  fun H locs ls hl hP hD hS => va_calll (va_runSU (As := As) (rest := st) (b := b) (C := C) (X.hK.1 ci _ hcl).2 X.1 hM cw ⟨Ww.blind, va_recv X.hK hP (ci := ci) (q0 := q0) hcl he, Ww.at X.hK hP hD hS X.hA X.hN⟩ rfl hn hl.1 hst (lv_room hW) hdg hc) hS (fun q _ h => h) (fun q h => h) (fun r1 u t H1 locs1 ht hvm hr1 hB hz1 hk1 hS1 => by have e1 : r1 = r := hr1; subst e1; exact kk H1 locs1 ls hl (by rw [← ht]; exact hB.1) hB.2 hS1)
theorem tw_callSNl (X : Cx p c cc nL s args own m meth D cl tys A) {σ' : Type} {Wd' : σ' → va_W} {y : MethodName} {bytes : ByteArray} {L : Nat} {ret : Option FieldType} {fr lo n index : Nat} {g' : σ'} {r : Int64} {host : String} {As : List Value} {st0 : List Value} (hM : Ct l y bytes L ret fr lo D cl tys A Wd As g (QL D cl A Wd' r g')) (cw : va_CN R s args own index y host bytes L ret (ws_ y bytes L ret) (rom fr lo) 0 0 n) (hstt : Cond.static y ∈ lw_all) (hc : ce ≤ R.cells ∧ sl ≤ R.slots) (hn : As.length = n) (hst : st0 = As.reverse ++ st) (hW : (st.map fun v => v.category).sum ≤ 8) (hdg : decode cc pc = .ok (.invokestatic index, 3)) (kk : TW p l e R s m args below meth c Q D cl A Wd' nL ce sl g' (pc + 3) lv (.long r :: st)) : TW p l e R s m args below meth c Q D cl A Wd nL ce sl g pc lv st0 :=
  fun H locs ls hl hP hD hS => va_calll (va_runSN (As := As) (rest := st) X.1 hM ⟨cw, X.hts _ hstt, trivial⟩ ⟨Ww.blind, Ww.at X.hK hP hD hS X.hA X.hN⟩ rfl hn hl.1 hst (lv_room hW) hdg hc) hS (fun q _ h => h) (fun q h => h) (fun r1 u t H1 locs1 ht hvm hr1 hB hz1 hk1 hS1 => by have e1 : r1 = r := hr1; subst e1; exact kk H1 locs1 ls hl (by rw [← ht]; exact hB.1) hB.2 hS1)
theorem tw_callFl (X : Cx p c cc nL s args own m meth D cl tys A) {σ' : Type} {Wd' : σ' → va_W} {y : MethodName} {bytes : ByteArray} {L : Nat} {ret : Option FieldType} {fr lo n index : Nat} {g' : σ'} {r : Int64} {C : String} {x : MethodName} {count : Nat} {As : List Value} {b : Nat} {st0 : List Value} (hM : Ct l y bytes L ret fr lo D cl tys A Wd (.ref b :: As) g (QL D cl A Wd' r g')) (cw : va_CI R s args own C index x y bytes L ret (ws_ y bytes L ret) (rom fr lo) 0 0 n) (hc : ce ≤ R.cells ∧ sl ≤ R.slots) (q0 : Nat) {ci : Nat} {fs : List Value} {T : u_T} {N : Nat} (he : (Wd g)[q0]? = some (b, .inr (ci, fs))) (hcl : cl[ci]? = some (C, T, N)) (hn : As.length = n) (hst : st0 = As.reverse ++ .ref b :: st) (hW : (st.map fun v => v.category).sum ≤ 8) (hdg : decode cc pc = .ok (.invokeinterface index count, 5)) (kk : TW p l e R s m args below meth c Q D cl A Wd' nL ce sl g' (pc + 5) lv (.long r :: st)) : TW p l e R s m args below meth c Q D cl A Wd nL ce sl g pc lv st0 :=
  fun H locs ls hl hP hD hS => va_callFl (va_runF (As := As) (rest := st) (b := b) (C := C) (X.hK.1 ci _ hcl).2 X.1 hM cw ⟨Ww.blind, va_recv X.hK hP (ci := ci) (q0 := q0) hcl he, Ww.at X.hK hP hD hS X.hA X.hN⟩ rfl hn hl.1 hst (lv_room hW) hdg hc) hS (fun q _ h => h) (fun q h => h) (fun r1 u t H1 locs1 ht hvm hr1 hB hz1 hk1 hS1 => by have e1 : r1 = r := hr1; subst e1; exact kk H1 locs1 ls hl (by rw [← ht]; exact hB.1) hB.2 hS1)
theorem tw_callVv (X : Cx p c cc nL s args own m meth D cl tys A) {σ' : Type} {Wd' : σ' → va_W} {y : MethodName} {bytes : ByteArray} {L : Nat} {ret : Option FieldType} {fr lo n index : Nat} {g' : σ'} {C : String} {As : List Value} {b : Nat} {st0 : List Value} (hM : Ct l y bytes L ret fr lo D cl tys A Wd (.ref b :: As) g (QV D cl A Wd' g')) (hw : GoodIn lw_all (wsV own index C y (ws_ y bytes L ret))) (hd : y.cls = C ∧ y.cls ≠ "java/lang/invoke/MethodHandle" ∧ y.cls ≠ "java/lang/invoke/VarHandle" ∧ (parseMethodDescriptor y.desc).map (fun d => d.parameters.length) = some n) (hR : fr + 1 ≤ R.frames ∧ 8 + (L + 11) + lo ≤ R.locals) (hc : ce ≤ R.cells ∧ sl ≤ R.slots) (q0 : Nat) {ci : Nat} {fs : List Value} {T : u_T} {N : Nat} (he : (Wd g)[q0]? = some (b, .inr (ci, fs))) (hcl : cl[ci]? = some (C, T, N)) (hn : As.length = n) (hst : st0 = As.reverse ++ .ref b :: st) (hW : (st.map fun v => v.category).sum ≤ 8) (hdg : decode cc pc = .ok (.invokevirtual index, 3)) (kk : TW p l e R s m args below meth c Q D cl A Wd' nL ce sl g' (pc + 3) lv st) : TW p l e R s m args below meth c Q D cl A Wd nL ce sl g pc lv st0 :=
  fun H locs ls hl hP hD hS => va_callv (va_runV (As := As) (rest := st) (b := b) (C := C) X.1 hM (cwV n X.hts hw rfl rfl rfl hd hR) ⟨Ww.blind, va_recv X.hK hP (ci := ci) (q0 := q0) hcl he, Ww.at X.hK hP hD hS X.hA X.hN⟩ rfl hn hl.1 hst (lv_room hW) hdg hc) hS (fun q _ h => h) (fun q h => h) (fun u t H1 locs1 ht hvm _ hB hz1 hk1 hS1 => kk H1 locs1 ls hl (by rw [← ht]; exact hB.1) hB.2 hS1)
theorem tw_callSv (X : Cx p c cc nL s args own m meth D cl tys A) {σ' : Type} {Wd' : σ' → va_W} {y : MethodName} {bytes : ByteArray} {L : Nat} {ret : Option FieldType} {fr lo n index : Nat} {g' : σ'} {As : List Value} {st0 : List Value} (hM : Ct l y bytes L ret fr lo D cl tys A Wd As g (QV D cl A Wd' g')) (hw : GoodIn lw_all (va_wsS own index y (ws_ y bytes L ret))) (hd : y.cls ≠ "java/lang/invoke/MethodHandle" ∧ y.cls ≠ "java/lang/invoke/VarHandle" ∧ (parseMethodDescriptor y.desc).map (fun d => d.parameters.length) = some n) (hR : fr + 1 ≤ R.frames ∧ 8 + (L + 11) + lo ≤ R.locals) (hc : ce ≤ R.cells ∧ sl ≤ R.slots) (hn : As.length = n) (hst : st0 = As.reverse ++ st) (hW : (st.map fun v => v.category).sum ≤ 8) (hdg : decode cc pc = .ok (.invokestatic index, 3)) (kk : TW p l e R s m args below meth c Q D cl A Wd' nL ce sl g' (pc + 3) lv st) : TW p l e R s m args below meth c Q D cl A Wd nL ce sl g pc lv st0 :=
  fun H locs ls hl hP hD hS => va_callv (va_runS (As := As) (rest := st) X.1 hM (va_cwS n X.hts hw rfl rfl rfl hd hR) ⟨Ww.blind, Ww.at X.hK hP hD hS X.hA X.hN⟩ rfl hn hl.1 hst (lv_room hW) hdg hc) hS (fun q _ h => h) (fun q h => h) (fun u t H1 locs1 ht hvm _ hB hz1 hk1 hS1 => kk H1 locs1 ls hl (by rw [← ht]; exact hB.1) hB.2 hS1)
theorem tw_callUv (X : Cx p c cc nL s args own m meth D cl tys A) {σ' : Type} {Wd' : σ' → va_W} {y : MethodName} {bytes : ByteArray} {L : Nat} {ret : Option FieldType} {fr lo n index : Nat} {g' : σ'} {C owner : String} {x : MethodName} {As : List Value} {b : Nat} {st0 : List Value} (hM : Ct l y bytes L ret fr lo D cl tys A Wd (.ref b :: As) g (QV D cl A Wd' g')) (cw : va_CU R s args own C owner index x y bytes L ret (ws_ y bytes L ret) (rom fr lo) 0 0 n) (hc : ce ≤ R.cells ∧ sl ≤ R.slots) (q0 : Nat) {ci : Nat} {fs : List Value} {T : u_T} {N : Nat} (he : (Wd g)[q0]? = some (b, .inr (ci, fs))) (hcl : cl[ci]? = some (C, T, N)) (hn : As.length = n) (hst : st0 = As.reverse ++ .ref b :: st) (hW : (st.map fun v => v.category).sum ≤ 8) (hdg : decode cc pc = .ok (.invokevirtual index, 3)) (kk : TW p l e R s m args below meth c Q D cl A Wd' nL ce sl g' (pc + 3) lv st) : TW p l e R s m args below meth c Q D cl A Wd nL ce sl g pc lv st0 :=
  fun H locs ls hl hP hD hS => va_callv (va_runU (As := As) (rest := st) (b := b) (C := C) X.1 hM cw ⟨Ww.blind, va_recv X.hK hP (ci := ci) (q0 := q0) hcl he, Ww.at X.hK hP hD hS X.hA X.hN⟩ rfl hn hl.1 hst (lv_room hW) hdg hc) hS (fun q _ h => h) (fun q h => h) (fun u t H1 locs1 ht hvm _ hB hz1 hk1 hS1 => kk H1 locs1 ls hl (by rw [← ht]; exact hB.1) hB.2 hS1)
theorem tw_callSUv (X : Cx p c cc nL s args own m meth D cl tys A) {σ' : Type} {Wd' : σ' → va_W} {y : MethodName} {bytes : ByteArray} {L : Nat} {ret : Option FieldType} {fr lo n index : Nat} {g' : σ'} {C : String} {As : List Value} {b : Nat} {st0 : List Value} (hM : Ct l y bytes L ret fr lo D cl tys A Wd (.ref b :: As) g (QV D cl A Wd' g')) (cw : va_CS R s args own index y bytes L ret (ws_ y bytes L ret) (rom fr lo) 0 0 n) (hc : ce ≤ R.cells ∧ sl ≤ R.slots) (q0 : Nat) {ci : Nat} {fs : List Value} {T : u_T} {N : Nat} (he : (Wd g)[q0]? = some (b, .inr (ci, fs))) (hcl : cl[ci]? = some (C, T, N)) (hn : As.length = n) (hst : st0 = As.reverse ++ .ref b :: st) (hW : (st.map fun v => v.category).sum ≤ 8) (hdg : decode cc pc = .ok (.invokespecial index, 3)) (kk : TW p l e R s m args below meth c Q D cl A Wd' nL ce sl g' (pc + 3) lv st) : TW p l e R s m args below meth c Q D cl A Wd nL ce sl g pc lv st0 :=
  fun H locs ls hl hP hD hS => va_callv (va_runSU (As := As) (rest := st) (b := b) (C := C) (X.hK.1 ci _ hcl).2 X.1 hM cw ⟨Ww.blind, va_recv X.hK hP (ci := ci) (q0 := q0) hcl he, Ww.at X.hK hP hD hS X.hA X.hN⟩ rfl hn hl.1 hst (lv_room hW) hdg hc) hS (fun q _ h => h) (fun q h => h) (fun u t H1 locs1 ht hvm _ hB hz1 hk1 hS1 => kk H1 locs1 ls hl (by rw [← ht]; exact hB.1) hB.2 hS1)
theorem tw_callSNv (X : Cx p c cc nL s args own m meth D cl tys A) {σ' : Type} {Wd' : σ' → va_W} {y : MethodName} {bytes : ByteArray} {L : Nat} {ret : Option FieldType} {fr lo n index : Nat} {g' : σ'} {host : String} {As : List Value} {st0 : List Value} (hM : Ct l y bytes L ret fr lo D cl tys A Wd As g (QV D cl A Wd' g')) (cw : va_CN R s args own index y host bytes L ret (ws_ y bytes L ret) (rom fr lo) 0 0 n) (hstt : Cond.static y ∈ lw_all) (hc : ce ≤ R.cells ∧ sl ≤ R.slots) (hn : As.length = n) (hst : st0 = As.reverse ++ st) (hW : (st.map fun v => v.category).sum ≤ 8) (hdg : decode cc pc = .ok (.invokestatic index, 3)) (kk : TW p l e R s m args below meth c Q D cl A Wd' nL ce sl g' (pc + 3) lv st) : TW p l e R s m args below meth c Q D cl A Wd nL ce sl g pc lv st0 :=
  fun H locs ls hl hP hD hS => va_callv (va_runSN (As := As) (rest := st) X.1 hM ⟨cw, X.hts _ hstt, trivial⟩ ⟨Ww.blind, Ww.at X.hK hP hD hS X.hA X.hN⟩ rfl hn hl.1 hst (lv_room hW) hdg hc) hS (fun q _ h => h) (fun q h => h) (fun u t H1 locs1 ht hvm _ hB hz1 hk1 hS1 => kk H1 locs1 ls hl (by rw [← ht]; exact hB.1) hB.2 hS1)
theorem tw_callFv (X : Cx p c cc nL s args own m meth D cl tys A) {σ' : Type} {Wd' : σ' → va_W} {y : MethodName} {bytes : ByteArray} {L : Nat} {ret : Option FieldType} {fr lo n index : Nat} {g' : σ'} {C : String} {x : MethodName} {count : Nat} {As : List Value} {b : Nat} {st0 : List Value} (hM : Ct l y bytes L ret fr lo D cl tys A Wd (.ref b :: As) g (QV D cl A Wd' g')) (cw : va_CI R s args own C index x y bytes L ret (ws_ y bytes L ret) (rom fr lo) 0 0 n) (hc : ce ≤ R.cells ∧ sl ≤ R.slots) (q0 : Nat) {ci : Nat} {fs : List Value} {T : u_T} {N : Nat} (he : (Wd g)[q0]? = some (b, .inr (ci, fs))) (hcl : cl[ci]? = some (C, T, N)) (hn : As.length = n) (hst : st0 = As.reverse ++ .ref b :: st) (hW : (st.map fun v => v.category).sum ≤ 8) (hdg : decode cc pc = .ok (.invokeinterface index count, 5)) (kk : TW p l e R s m args below meth c Q D cl A Wd' nL ce sl g' (pc + 5) lv st) : TW p l e R s m args below meth c Q D cl A Wd nL ce sl g pc lv st0 :=
  fun H locs ls hl hP hD hS => va_callFv (va_runF (As := As) (rest := st) (b := b) (C := C) (X.hK.1 ci _ hcl).2 X.1 hM cw ⟨Ww.blind, va_recv X.hK hP (ci := ci) (q0 := q0) hcl he, Ww.at X.hK hP hD hS X.hA X.hN⟩ rfl hn hl.1 hst (lv_room hW) hdg hc) hS (fun q _ h => h) (fun q h => h) (fun u t H1 locs1 ht hvm _ hB hz1 hk1 hS1 => kk H1 locs1 ls hl (by rw [← ht]; exact hB.1) hB.2 hS1)
end TWD
