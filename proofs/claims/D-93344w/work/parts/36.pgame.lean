/-! a game of two -/
set_option maxRecDepth 100000
def upb (b u : Nat) : Nat := if u = 1 then 0 else if u = 2 then 2 else b
def vlu (x : Nat ⊕ Unit) : Nat := Sum.elim id (fun _ => 0) x
/-- what it is worth to who makes a change now: 0 it wins, 1 the other one, 2 nobody -/
def gv (L : RLt) (ab : Nat) : Nat → Tn → Nat
  | 0, _ => 2
  | l + 1, T => vlu (fo (okC L T ab) (fun c b => if b = 0 then (.inr () : Nat ⊕ Unit) else .inl (upb b (gv L ab l (doT L T ab c)))) 60 0 1)
theorem upb_le {b u : Nat} (hb : b ≤ 2) : upb b u ≤ 2 := by
  unfold upb
  split
  · omega
  · split <;> omega
theorem fo_le {P : Nat → Bool} {F : Nat → Nat} : ∀ k c b, b ≤ 2 → vlu (fo P (fun c b => if b = 0 then (.inr () : Nat ⊕ Unit) else .inl (upb b (F c))) k c b) ≤ 2
  | 0, _, b, h => h
  | k + 1, c, b, h => by
    rw [fo_s]
    split
    · by_cases e : b = 0
      · rw [if_pos e]
        show (0 : Nat) ≤ 2
        omega
      · rw [if_neg e]
        exact fo_le k (c + 1) _ (upb_le h)
    · exact fo_le k (c + 1) b h
theorem gv_le {L : RLt} {ab : Nat} : ∀ l T, gv L ab l T ≤ 2
  | 0, _ => Nat.le_refl _
  | l + 1, T => fo_le 60 0 1 (by omega)
theorem fo_0 {P : Nat → Bool} {F : Nat → Nat} : ∀ k c, vlu (fo P (fun c b => if b = 0 then (.inr () : Nat ⊕ Unit) else .inl (upb b (F c))) k c 0) = 0
  | 0, _ => rfl
  | k + 1, c => by
    rw [fo_s]
    split
    · rfl
    · exact fo_0 k (c + 1)
/-- passing over what can't be done -/
theorem fo_can {P Q : Nat → Bool} {F : Nat → Nat} : ∀ k c b, vlu (fo P (fun c b => if b = 0 then (.inr () : Nat ⊕ Unit) else .inl (if Q c then upb b (F c) else b)) k c b) = vlu (fo (fun c => P c && Q c) (fun c b => if b = 0 then (.inr () : Nat ⊕ Unit) else .inl (upb b (F c))) k c b)
  | 0, _, _ => rfl
  | k + 1, c, b => by
    rw [fo_s, fo_s]
    have ih := fo_can (P := P) (Q := Q) (F := F) k (c + 1)
    cases p : P c with
    | false =>
      rw [Bool.false_and, if_neg (by decide), if_neg (by decide)]
      exact ih b
    | true =>
      rw [Bool.true_and, if_pos rfl]
      by_cases e : b = 0
      · subst e
        rw [if_pos rfl]
        split
        · rfl
        · exact (fo_0 k (c + 1)).symm
      · rw [if_neg e]
        cases q : Q c with
        | false =>
          rw [if_neg (by decide), if_neg (by decide)]
          exact ih b
        | true =>
          rw [if_pos rfl, if_pos rfl, if_neg e]
          exact ih _
/-- who wins, told by the side that is on turn -/
def wv (s v : Nat) : Nat := if v = 2 then 2 else if v = 0 then s else 1 - s
theorem nI_1s {s : Nat} (h : s ≤ 1) : (1 : Int32) - nI s = nI (1 - s) := pk_sub (a := 1) h
section PGM
variable {g0 h0 : St} {z : Int32} {ab : Nat} {E : EE} {L : RLt} {U : Nat → Int32} {en : Nat → Nat}
theorem kw_valueOf (hL : LOK L) {T : Tn} {rc : St → Int32 → Int32 → Option (Int32 × St)} {l : Nat} (ih : ∀ (s : Nat) (T : Tn) (g : St), s ≤ 1 → WF T → ER E L T → KR g0 g T z 6 → ∃ g', rc g (nI s) (nI l) = some (nI (wv s (gv L 6 l T)), g') ∧ KR g0 g' T z 6) {s c : Nat} {g : St} (hs : s ≤ 1) (w : WF T) (hE : ER E L T) (k : KR g0 g T z 6) (hok : okC L T 6 c = true) : ∃ g', kF_valueOf rc E g (nI s) (nI c) (nI (l + 1)) = some (nI (wv (1 - s) (gv L 6 l (doT L T 6 c))), g') ∧ KR g0 g' T z 6 := by
  obtain ⟨c60, -, p6, -⟩ := chg_in w (okC_in hok).1
  unfold kF_valueOf
  obtain ⟨g1, a1, a2, -⟩ := kw_carry k w (by omega) hE hL hok
  obtain ⟨g2, b1, b2⟩ := ih (1 - s) (doT L T 6 c) g1 (by omega) (do_WF w hok) (do_ER w hE hok) a2
  obtain ⟨g3, c1, c2, -⟩ := kw_back1 w hok b2
  rw [dv10 (by omega), Option.bind_some, K_ha k p6, Option.bind_some, a1, Option.bind_some]
  dsimp only [un2]
  rw [nI_1s hs, nI_pred, b1, Option.bind_some]
  dsimp only [un2]
  rw [c1, Option.bind_some]
  exact ⟨g3, rfl, c2⟩
theorem kw_worthOf (hL : LOK L) : ∀ (d l s : Nat) (T : Tn) (g : St), l < d → l ≤ 6 → s ≤ 1 → WF T → ER E L T → KR g0 g T z 6 → ∃ g', kF_worthOf E d g (nI s) (nI l) = some (nI (wv s (gv L 6 l T)), g') ∧ KR g0 g' T z 6 := by
  intro d
  induction d with
  | zero => intro l s T g hd; omega
  | succ d ih =>
    intro l s T g hd hl hs w hE k
    rw [kF_worthOf]
    dsimp only
    cases l with
    | zero =>
      rw [if_pos (by rfl)]
      exact ⟨g, rfl, k⟩
    | succ l =>
      have n2 : (2 : Int32) = nI 2 := rfl
      rw [if_neg (nI_ne0 (by omega) (by omega)), kw_after k w m1_0 (by omega), Option.bind_some, nI_1s hs]
      have wb : ∀ b, b ≤ 2 → (nI (wv s b) = nI s ↔ b = 0) := by
        intro b hb
        have : wv s b ≤ 2 := by
          unfold wv
          split
          · omega
          · split <;> omega
        rw [nI_eq (by omega) (by omega)]
        unfold wv
        split
        · omega
        · split <;> omega
      obtain ⟨t, e1, e2⟩ := iter_nx (body := un3 fun s2a s2b s2c =>
      if (99 : Int32) ≤ s2c then
        some (.inr (s2b, s2a))
      else
        if s2b = nI s then
          some (.inr (s2b, s2a))
        else
          (kF_can E s2a s2c).bind (un2 fun y6a y6b =>
          Option.bind (α := St × Int32) (β := ((St × Int32 × Int32) ⊕ (Int32 × St)))
            (if y6a = 0 then
              some (y6b, s2b)
            else
              (kF_valueOf (kF_worthOf E d) E y6b (nI s) s2c (nI (l + 1))).bind (un2 fun y11a y11b =>
              Option.bind (α := Int32) (β := St × Int32)
                (if y11a = nI s then
                  some y11a
                else
                  if y11a = (2 : Int32) then
                    some y11a
                  else
                    some s2b)
                (fun j12 => some (y11b, j12))))
            (un2 fun j8a j8b => (kF_after j8a s2c).bind fun x10 =>
            some (.inl (j8a, j8b, x10))))) (chg T) (fun c b => if b = 0 then (.inr () : Nat ⊕ Unit) else .inl (if can L T 6 c then upb b (gv L 6 l (doT L T 6 c)) else b)) 60 (fun b c q => ∃ g', q = (g', nI (wv s b), encA c) ∧ b ≤ 2 ∧ KR g0 g' T z 6) (fun b t => ∃ g', t = (nI (wv s b), g') ∧ KR g0 g' T z 6) (fun _ t => ∃ g', t = (nI (wv s 0), g') ∧ KR g0 g' T z 6)
        (by
          rintro b c q hc hP ⟨g1, rfl, hb, k1⟩
          dsimp only [un3]
          rw [encA_in hc, if_neg (ge99 hc)]
          by_cases e : b = 0
          · subst e
            right
            refine ⟨(), (nI (wv s 0), g1), if_pos rfl, ?_, g1, rfl, k1⟩
            rw [if_pos ((wb 0 (by omega)).mpr rfl)]
          · left
            rw [if_neg (fun x => e ((wb b hb).mp x))]
            obtain ⟨g2, a1, k2, -⟩ := kw_can k1 w (by omega) hE hL hP
            rw [a1, Option.bind_some]
            dsimp only [un2]
            rw [iz, if_neg e]
            cases q : can L T 6 c with
            | false =>
              rw [if_neg (by decide), if_neg (by decide), Option.bind_some]
              dsimp only [un2]
              rw [kw_after k2 w (nI_1 c) (by omega), Option.bind_some]
              exact ⟨b, _, rfl, rfl, g2, rfl, hb, k2⟩
            | true =>
              have hok : okC L T 6 c = true := by
                unfold okC
                rw [hP, q]
                rfl
              rw [if_pos rfl, if_pos rfl]
              obtain ⟨g3, b1, b2⟩ := kw_valueOf (rc := kF_worthOf E d) hL (fun s T g h1 h2 h3 h4 => ih l s T g (by omega) (by omega) h1 h2 h3 h4) hs w hE k2 hok
              have hu := gv_le (L := L) (ab := 6) l (doT L T 6 c)
              have hsel : (if nI (wv (1 - s) (gv L 6 l (doT L T 6 c))) = nI s then some (nI (wv (1 - s) (gv L 6 l (doT L T 6 c)))) else if nI (wv (1 - s) (gv L 6 l (doT L T 6 c))) = (2 : Int32) then some (nI (wv (1 - s) (gv L 6 l (doT L T 6 c)))) else some (nI (wv s b))) = some (nI (wv s (upb b (gv L 6 l (doT L T 6 c))))) := by
                generalize gv L 6 l (doT L T 6 c) = u at hu
                have hw : wv (1 - s) u ≤ 2 := by
                  unfold wv
                  split
                  · omega
                  · split <;> omega
                rw [ie (by omega) (by omega), n2, ie (by omega) (by omega)]
                unfold upb
                by_cases u1 : u = 1
                · subst u1
                  have x1 : wv (1 - s) 1 = s := by
                    unfold wv
                    rw [if_neg (by omega), if_neg (by omega)]
                    omega
                  rw [if_pos x1, if_pos rfl, x1]
                  rfl
                · by_cases u2 : u = 2
                  · subst u2
                    have x1 : wv (1 - s) 2 = 2 := rfl
                    rw [if_neg u1, if_pos rfl, x1]
                    show (if (2 : Nat) = s then some (nI 2) else if (2 : Nat) = 2 then some (nI 2) else _) = some (nI 2)
                    rw [if_neg (by omega), if_pos rfl]
                  · have x1 : wv (1 - s) u = 1 - s := by
                      unfold wv
                      rw [if_neg u2, if_pos (by omega)]
                    rw [x1, if_neg (by omega), if_neg (by omega), if_neg u1, if_neg u2]
              rw [b1, Option.bind_some]
              dsimp only [un2]
              rw [hsel, Option.bind_some, Option.bind_some]
              dsimp only [un2]
              rw [kw_after b2 w (nI_1 c) (by omega), Option.bind_some]
              exact ⟨_, _, rfl, rfl, g3, rfl, upb_le hb, b2⟩)
        (by
          rintro b q ⟨g1, rfl, hb, k1⟩
          exact ⟨_, rfl, g1, rfl, k1⟩) 60 0 1 (g, nI (wv s 1), encA (nx (chg T) (60 - 0) 0)) (by omega) ⟨g, rfl, by omega, k⟩
      have hstart : nI (1 - s) = nI (wv s 1) := rfl
      rw [hstart, e1]
      have hval := fo_can (P := chg T) (Q := can L T 6) (F := fun c => gv L 6 l (doT L T 6 c)) 60 0 1
      show ∃ g', some t = some (nI (wv s (vlu (fo (fun c => chg T c && can L T 6 c) (fun c b => if b = 0 then (.inr () : Nat ⊕ Unit) else .inl (upb b (gv L 6 l (doT L T 6 c)))) 60 0 1))), g') ∧ KR g0 g' T z 6
      rw [← hval]
      cases q : fo (chg T) (fun c b => if b = 0 then (.inr () : Nat ⊕ Unit) else .inl (if can L T 6 c then upb b (gv L 6 l (doT L T 6 c)) else b)) 60 0 1 with
      | inl b =>
        rw [q] at e2
        obtain ⟨g', rfl, k'⟩ := e2
        exact ⟨g', rfl, k'⟩
      | inr u =>
        rw [q] at e2
        obtain ⟨g', rfl, k'⟩ := e2
        exact ⟨g', rfl, k'⟩
/-- turned over -/
def trn (v : Nat) : Nat := if v = 2 then 2 else 1 - v
theorem tw_valueBy (hU : UR U L en) (hL : LOK L) {T : Tn} {rc : St → Int32 → Option (Int32 × St)} {l : Nat} (ih : ∀ (T : Tn) (h : St), WF T → TR h0 h T z U 6 → ∃ h', rc h (nI l) = some (nI (gv L 6 l T), h') ∧ TR h0 h' T z U 6) {c : Nat} {h : St} (w : WF T) (k : TR h0 h T z U 6) (hok : okC L T 6 c = true) : ∃ h', tF_valueBy rc h (nI c) (nI (l + 1)) = some (nI (trn (gv L 6 l (doT L T 6 c))), h') ∧ TR h0 h' T z U 6 := by
  unfold tF_valueBy
  obtain ⟨h1, a1, a2, a3, a4, -, -⟩ := tw_does k w (by omega) hU hL hok
  obtain ⟨h2, b1, b2⟩ := ih (doT L T 6 c) h1 (do_WF w hok) a2
  obtain ⟨h3, c1, c2, -⟩ := tw_undoes w hok b2
  have hu := gv_le (L := L) (ab := 6) l (doT L T 6 c)
  have ht : tF_turned (nI (gv L 6 l (doT L T 6 c))) = nI (trn (gv L 6 l (doT L T 6 c))) := by
    generalize gv L 6 l (doT L T 6 c) = u at hu
    match u, hu with
    | 0, _ => rfl
    | 1, _ => rfl
    | 2, _ => rfl
  rw [a1, Option.bind_some, nI_pred, b1, Option.bind_some]
  dsimp only [un2]
  rw [a3, a4, c1, Option.bind_some, ht]
  exact ⟨h3, rfl, c2⟩
theorem tw_valueOf (hU : UR U L en) (hL : LOK L) : ∀ (d l : Nat) (T : Tn) (h : St), l < d → l ≤ 6 → WF T → TR h0 h T z U 6 → ∃ h', tF_valueOf d h (nI l) = some (nI (gv L 6 l T), h') ∧ TR h0 h' T z U 6 := by
  intro d
  induction d with
  | zero => intro l T h hd; omega
  | succ d ih =>
    intro l T h hd hl w k
    rw [tF_valueOf]
    dsimp only
    cases l with
    | zero =>
      rw [if_pos (by rfl)]
      exact ⟨h, rfl, k⟩
    | succ l =>
      rw [if_neg (nI_ne0 (by omega) (by omega))]
      obtain ⟨h1, n1', n2, -⟩ := tw_next0 k w (by omega) hU hL
      rw [n1', Option.bind_some]
      dsimp only [un2]
      obtain ⟨t, e1, e2⟩ := iter_nx (body := un3 fun s2a s2b s2c =>
      if s2c < 0 then
        some (.inr (s2b, s2a))
      else
        if s2b = 0 then
          some (.inr (s2b, s2a))
        else
          (tF_valueBy (tF_valueOf d) s2a s2c (nI (l + 1))).bind (fun y =>
          Option.bind (α := Int32) (β := ((St × Int32 × Int32) ⊕ (Int32 × St)))
            (if y.1 = 0 then
              some (0 : Int32)
            else
              if y.1 = (2 : Int32) then
                some (2 : Int32)
              else
                some s2b)
            (fun j7 => (tF_nextChange y.2 s2c).bind (fun x =>
            some (.inl (x.2, j7, x.1)))))) (okC L T 6) (fun c b => if b = 0 then (.inr () : Nat ⊕ Unit) else .inl (upb b (gv L 6 l (doT L T 6 c)))) 60 (fun b c q => ∃ g', q = (g', nI b, encM c) ∧ b ≤ 2 ∧ TR h0 g' T z U 6) (fun b t => ∃ g', t = (nI b, g') ∧ TR h0 g' T z U 6) (fun _ t => ∃ g', t = (nI 0, g') ∧ TR h0 g' T z U 6)
        (by
          rintro b c q hc hok ⟨g1, rfl, hb, k1⟩
          dsimp only [un3]
          rw [encM_in hc, if_neg (nI_pos (by omega)), ie0 (by omega)]
          by_cases e : b = 0
          · subst e
            right
            exact ⟨(), (nI 0, g1), if_pos rfl, if_pos rfl, g1, rfl, k1⟩
          · left
            rw [if_neg e, if_neg e]
            obtain ⟨g2, a1, a2⟩ := tw_valueBy (rc := tF_valueOf d) hU hL (fun T h h1 h2 => ih l T h (by omega) (by omega) h1 h2) w k1 hok
            have hu := gv_le (L := L) (ab := 6) l (doT L T 6 c)
            have hsel : (if nI (trn (gv L 6 l (doT L T 6 c))) = 0 then some (0 : Int32) else if nI (trn (gv L 6 l (doT L T 6 c))) = (2 : Int32) then some (2 : Int32) else some (nI b)) = some (nI (upb b (gv L 6 l (doT L T 6 c)))) := by
              generalize gv L 6 l (doT L T 6 c) = u at hu
              match u, hu with
              | 0, _ => rfl
              | 1, _ => rfl
              | 2, _ => rfl
            obtain ⟨g3, f1, f2, -⟩ := tw_nextc a2 w (by omega) hU hL hc
            rw [a1, Option.bind_some]
            dsimp only
            rw [hsel, Option.bind_some, f1, Option.bind_some]
            exact ⟨_, _, rfl, rfl, g3, rfl, upb_le hb, f2⟩)
        (by
          rintro b q ⟨g1, rfl, hb, k1⟩
          exact ⟨_, rfl, g1, rfl, k1⟩) 60 0 1 (h1, nI 1, encM (nx (okC L T 6) 60 0)) (by omega) ⟨h1, rfl, by omega, n2⟩
      show ∃ h', iter _ (h1, nI 1, encM (nx (okC L T 6) 60 0)) = some (nI (vlu (fo (okC L T 6) (fun c b => if b = 0 then (.inr () : Nat ⊕ Unit) else .inl (upb b (gv L 6 l (doT L T 6 c)))) 60 0 1)), h') ∧ TR h0 h' T z U 6
      cases q : fo (okC L T 6) (fun c b => if b = 0 then (.inr () : Nat ⊕ Unit) else .inl (upb b (gv L 6 l (doT L T 6 c)))) 60 0 1 with
      | inl b =>
        rw [q] at e2
        obtain ⟨g', rfl, k'⟩ := e2
        exact ⟨g', e1, k'⟩
      | inr u =>
        rw [q] at e2
        obtain ⟨g', rfl, k'⟩ := e2
        exact ⟨g', e1, k'⟩
theorem pb_game {T : Tn} {g h : St} (j : JT E L U en g0 h0 T z g h) (a1 : Int32) : Pb E L U en g0 h0 (kF_game E g a1) (tF_game h a1) := by
  unfold kF_game tF_game tF_isGame
  rw [show tF_in a1.toInt64 (1 : Int64) (6 : Int64) = kF_isIn a1 1 6 from tin a1 1 6]
  rcases isJ_c a1 (a := 1) (m := 6) (A := 1) (M := 6) rfl rfl (by omega) (by omega) with q | ⟨m, h1, h2, rfl, q⟩
  · rw [q, if_pos rfl, if_pos rfl]
    exact Pb.same j rfl rfl
  · rw [q, if_neg c10, if_neg c10]
    obtain ⟨g', a1, a2⟩ := kw_worthOf (E := E) j.hL 8 m 0 T g (by omega) (by omega) (by omega) j.w j.hE j.k
    obtain ⟨h', b1, b2⟩ := tw_valueOf j.hU j.hL 8 m T h (by omega) (by omega) j.w j.t
    have hu := gv_le (L := L) (ab := 6) m T
    have e : wv 0 (gv L 6 m T) = gv L 6 m T := by
      generalize gv L 6 m T = u at hu
      match u, hu with
      | 0, _ => rfl
      | 1, _ => rfl
      | 2, _ => rfl
    rw [e] at a1
    rw [show (0 : Int32) = nI 0 from rfl, a1, b1]
    exact Pb.to j rfl rfl a2 b2
end PGM
