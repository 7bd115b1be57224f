/-! a change leaves them alike; each change makes one more whole -/
set_option maxRecDepth 100000
section AG2
variable {T1 T2 : Tn} {L : RLt} {ab : Nat}
theorem agr_tup {i v : Nat} (h : agr T1 T2) : agr (tup T1 i v) (tup T2 i v) := by
  intro j a b
  unfold tup
  split
  · rfl
  · exact h j a b
theorem agr_trd (h : agr T1 T2) (w : WF T1) {p th nc : Nat} (hp : p < 6) (ht : th < 8) : agr (trd T1 p th nc) (trd T2 p th nc) := by
  have b1 := w.ha hp
  have e23 := h (23 + 5 * p) (by omega) (by omega)
  have eh := h (14 + T1 (23 + 5 * p)) (by omega) (by omega)
  have et := h (14 + th) (by omega) (by omega)
  unfold trd
  have ev : tup T1 (14 + T1 (23 + 5 * p)) (T1 (14 + T1 (23 + 5 * p)) + 1) (14 + th) = tup T2 (14 + T2 (23 + 5 * p)) (T2 (14 + T2 (23 + 5 * p)) + 1) (14 + th) := by
    rw [eh, e23]
    unfold tup
    split
    · rfl
    · exact et
  rw [ev, eh, e23]
  exact agr_tup (agr_tup (agr_tup (agr_tup h)))
theorem agr_exc (h : agr T1 T2) {p q : Nat} (hp : p < 6) (hq : q < 6) : agr (exc T1 p q) (exc T2 p q) := by
  unfold exc
  rw [h (23 + 5 * p) (by omega) (by omega), h (23 + 5 * q) (by omega) (by omega)]
  exact agr_tup (agr_tup h)
theorem agr_do (h : agr T1 T2) (w : WF T1) {c : Nat} (hc : okC L T1 ab c = true) : agr (doT L T1 ab c) (doT L T2 ab c) := by
  obtain ⟨h1, h2⟩ := okC_in hc
  obtain ⟨c60, cp, p6, cq⟩ := chg_in w h1
  unfold doT
  split
  · rw [← h (24 + 5 * (c / 10)) (by omega) (by omega), ← h (25 + 5 * (c / 10)) (by omega) (by omega), ← agr_pr h w p6]
    exact agr_trd h w p6 (w.ne p6)
  · exact agr_exc h p6 (by omega)
theorem agr_ent {T : Tn} {c old fr : Nat} (h4 : T 4 ≤ 12) : agr (entT T c old fr) T := fun i a b => ent_o h4 a b
theorem agr_tr {T3 : Tn} (h : agr T1 T2) (k : agr T2 T3) : agr T1 T3 := fun i a b => (h i a b).trans (k i a b)
theorem agr_sy (h : agr T1 T2) : agr T2 T1 := fun i a b => (h i a b).symm
end AG2
