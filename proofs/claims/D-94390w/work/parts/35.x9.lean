set_option maxRecDepth 100000
/-! the reference, new: its arrays, one after the other -/
def τ0 : Tw := (fun k => if k = 9 then -1 else 0, fun _ _ => 0, fun _ _ => 0)
def iT (tw j : Nat) (fs : List Value) (M : Nat → Option Ob) (sl : Nat) (ro : Nat → Nat) : Sw := (fun a => if a = tw then some (.inr (9, fs)) else if tw < a ∧ a ≤ tw + j then some (tB tw τ0 (a - tw)) else M a, tw + j + 1, sl, ro)
theorem iT_new {tw j j' n sl sl' : Nat} {fs : List Value} {M : Nat → Option Ob} {ro : Nat → Nat} {o : Ob} (hj : j + 1 = j') (hs : sl + n = sl') (e : tB tw τ0 (j + 1) = o) : nw (iT tw j fs M sl ro) o n = iT tw j' fs M sl' ro := by
  subst hj; subst hs; subst e
  refine Prod.ext (funext fun a => ?_) rfl
  show (if a = tw + j + 1 then some (tB tw τ0 (j + 1)) else if a = tw then some (.inr (9, fs)) else if tw < a ∧ a ≤ tw + j then some (tB tw τ0 (a - tw)) else M a) = (if a = tw then some (.inr (9, fs)) else if tw < a ∧ a ≤ tw + (j + 1) then some (tB tw τ0 (a - tw)) else M a)
  by_cases h1 : a = tw + j + 1
  · rw [if_pos h1, if_neg (by omega), if_pos (by omega), show a - tw = j + 1 by omega]
  · rw [if_neg h1]
    by_cases h2 : a = tw
    · rw [if_pos h2, if_pos h2]
    · rw [if_neg h2, if_neg h2]
      by_cases h3 : tw < a ∧ a ≤ tw + j
      · rw [if_pos h3, if_pos (by omega)]
      · rw [if_neg h3, if_neg (by omega)]
theorem iT_at {tw j sl : Nat} {fs : List Value} {M : Nat → Option Ob} {ro : Nat → Nat} : (iT tw j fs M sl ro).1 tw = some (.inr (9, fs)) := if_pos rfl
theorem iT_put {tw j sl k : Nat} {fs fs' : List Value} {M : Nat → Option Ob} {ro : Nat → Nat} {v : Value} (hk : k < fs.length) (hv : fs.set k v = fs') : pf (iT tw j fs M sl ro) tw 9 k v = some (iT tw j fs' M sl ro) := by
  subst hv
  unfold pf
  rw [iT_at]
  show (if (9 : Nat) = 9 ∧ k < fs.length then some (mup (iT tw j fs M sl ro).1 tw (.inr (9, fs.set k v)), (iT tw j fs M sl ro).2) else none) = _
  rw [if_pos ⟨rfl, hk⟩]
  refine congrArg some (Prod.ext (funext fun a => ?_) rfl)
  show (if a = tw then some (.inr (9, fs.set k v)) else (if a = tw then some (.inr (9, fs)) else if tw < a ∧ a ≤ tw + j then some (tB tw τ0 (a - tw)) else M a)) = (if a = tw then some (.inr (9, fs.set k v)) else if tw < a ∧ a ≤ tw + j then some (tB tw τ0 (a - tw)) else M a)
  by_cases h : a = tw
  · rw [if_pos h, if_pos h]
  · rw [if_neg h, if_neg h, if_neg h]
theorem iT_end {tw sl : Nat} {fs : List Value} {M : Nat → Option Ob} {ro : Nat → Nat} (h : fs = tF tw τ0) : iT tw 34 fs M sl ro = mT tw τ0 (M, tw + 35, sl, ro) := by
  subst h
  refine Prod.ext (funext fun a => ?_) rfl
  show (if a = tw then some (.inr (9, tF tw τ0)) else if tw < a ∧ a ≤ tw + 34 then some (tB tw τ0 (a - tw)) else M a) = (if tw ≤ a ∧ a ≤ tw + 34 then some (tB tw τ0 (a - tw)) else M a)
  by_cases h : a = tw
  · rw [if_pos h, if_pos (by omega), show a - tw = 0 by omega]
    rfl
  · rw [if_neg h]
    by_cases h2 : tw < a ∧ a ≤ tw + 34
    · rw [if_pos h2, if_pos (by omega)]
    · rw [if_neg h2, if_neg (by omega)]
theorem iT_start {μ : Sw} : nw μ (.inr (9, dfX9)) 53 = iT μ.2.1 0 dfX9 μ.1 (μ.2.2.1 + 53) μ.2.2.2 := by
  refine Prod.ext (funext fun a => ?_) rfl
  show (if a = μ.2.1 then some (.inr (9, dfX9)) else μ.1 a) = (if a = μ.2.1 then some (.inr (9, dfX9)) else if μ.2.1 < a ∧ a ≤ μ.2.1 + 0 then some (tB μ.2.1 τ0 (a - μ.2.1)) else μ.1 a)
  by_cases h : a = μ.2.1
  · rw [if_pos h, if_pos h]
  · rw [if_neg h, if_neg h, if_neg (by omega)]
abbrev mX9_init : Ym := (RX9, cX9_init, 1, none, true, [])
noncomputable def t_X9_init (F : Nat) : Option Tw := Option.bind (t_X9_begin F 0 τ0) fun τ1 => t_X9_settle F τ1
def fsT0 (tw : Nat) : List Value := [.int 0, .null, .int 0, .null, .null, .null, .null, .int 0, .int 0, .int 0, .int 0, .int 0, .null, .null, .null, .null, .null, .null, .null, .null, .null, .null, .null, .null, .null, .int 0, .null, .null, .null, .int 0, .int 0, .null, .int 0, .int 0, .null, .int 0, .null, .null, .null, .null, .int 0, .int 0, .int 0, .null, .null, .null, .null, .null, .int 0, .int 0, .int 0, .null, .null]
def fsT1 (tw : Nat) : List Value := [.int 0, .ref (tw + 1), .int 0, .null, .null, .null, .null, .int 0, .int 0, .int 0, .int 0, .int 0, .null, .null, .null, .null, .null, .null, .null, .null, .null, .null, .null, .null, .null, .int 0, .null, .null, .null, .int 0, .int 0, .null, .int 0, .int 0, .null, .int 0, .null, .null, .null, .null, .int 0, .int 0, .int 0, .null, .null, .null, .null, .null, .int 0, .int 0, .int 0, .null, .null]
theorem fsS1 (tw : Nat) : (fsT0 tw).set 1 (.ref (tw + 1)) = fsT1 tw := rfl
theorem fsL1 (tw : Nat) : 1 < (fsT0 tw).length := Nat.le_of_ble_eq_true rfl
def fsT2 (tw : Nat) : List Value := [.int 0, .ref (tw + 1), .int 0, .ref (tw + 2), .null, .null, .null, .int 0, .int 0, .int 0, .int 0, .int 0, .null, .null, .null, .null, .null, .null, .null, .null, .null, .null, .null, .null, .null, .int 0, .null, .null, .null, .int 0, .int 0, .null, .int 0, .int 0, .null, .int 0, .null, .null, .null, .null, .int 0, .int 0, .int 0, .null, .null, .null, .null, .null, .int 0, .int 0, .int 0, .null, .null]
theorem fsS2 (tw : Nat) : (fsT1 tw).set 3 (.ref (tw + 2)) = fsT2 tw := rfl
theorem fsL2 (tw : Nat) : 3 < (fsT1 tw).length := Nat.le_of_ble_eq_true rfl
def fsT3 (tw : Nat) : List Value := [.int 0, .ref (tw + 1), .int 0, .ref (tw + 2), .ref (tw + 3), .null, .null, .int 0, .int 0, .int 0, .int 0, .int 0, .null, .null, .null, .null, .null, .null, .null, .null, .null, .null, .null, .null, .null, .int 0, .null, .null, .null, .int 0, .int 0, .null, .int 0, .int 0, .null, .int 0, .null, .null, .null, .null, .int 0, .int 0, .int 0, .null, .null, .null, .null, .null, .int 0, .int 0, .int 0, .null, .null]
theorem fsS3 (tw : Nat) : (fsT2 tw).set 4 (.ref (tw + 3)) = fsT3 tw := rfl
theorem fsL3 (tw : Nat) : 4 < (fsT2 tw).length := Nat.le_of_ble_eq_true rfl
def fsT4 (tw : Nat) : List Value := [.int 0, .ref (tw + 1), .int 0, .ref (tw + 2), .ref (tw + 3), .ref (tw + 4), .null, .int 0, .int 0, .int 0, .int 0, .int 0, .null, .null, .null, .null, .null, .null, .null, .null, .null, .null, .null, .null, .null, .int 0, .null, .null, .null, .int 0, .int 0, .null, .int 0, .int 0, .null, .int 0, .null, .null, .null, .null, .int 0, .int 0, .int 0, .null, .null, .null, .null, .null, .int 0, .int 0, .int 0, .null, .null]
theorem fsS4 (tw : Nat) : (fsT3 tw).set 5 (.ref (tw + 4)) = fsT4 tw := rfl
theorem fsL4 (tw : Nat) : 5 < (fsT3 tw).length := Nat.le_of_ble_eq_true rfl
def fsT5 (tw : Nat) : List Value := [.int 0, .ref (tw + 1), .int 0, .ref (tw + 2), .ref (tw + 3), .ref (tw + 4), .ref (tw + 5), .int 0, .int 0, .int 0, .int 0, .int 0, .null, .null, .null, .null, .null, .null, .null, .null, .null, .null, .null, .null, .null, .int 0, .null, .null, .null, .int 0, .int 0, .null, .int 0, .int 0, .null, .int 0, .null, .null, .null, .null, .int 0, .int 0, .int 0, .null, .null, .null, .null, .null, .int 0, .int 0, .int 0, .null, .null]
theorem fsS5 (tw : Nat) : (fsT4 tw).set 6 (.ref (tw + 5)) = fsT5 tw := rfl
theorem fsL5 (tw : Nat) : 6 < (fsT4 tw).length := Nat.le_of_ble_eq_true rfl
def fsT6 (tw : Nat) : List Value := [.int 0, .ref (tw + 1), .int 0, .ref (tw + 2), .ref (tw + 3), .ref (tw + 4), .ref (tw + 5), .int 0, .int 0, .int (-1), .int 0, .int 0, .null, .null, .null, .null, .null, .null, .null, .null, .null, .null, .null, .null, .null, .int 0, .null, .null, .null, .int 0, .int 0, .null, .int 0, .int 0, .null, .int 0, .null, .null, .null, .null, .int 0, .int 0, .int 0, .null, .null, .null, .null, .null, .int 0, .int 0, .int 0, .null, .null]
theorem fsS6 (tw : Nat) : (fsT5 tw).set 9 (.int (-1)) = fsT6 tw := rfl
theorem fsL6 (tw : Nat) : 9 < (fsT5 tw).length := Nat.le_of_ble_eq_true rfl
def fsT7 (tw : Nat) : List Value := [.int 0, .ref (tw + 1), .int 0, .ref (tw + 2), .ref (tw + 3), .ref (tw + 4), .ref (tw + 5), .int 0, .int 0, .int (-1), .int 0, .int 0, .ref (tw + 6), .null, .null, .null, .null, .null, .null, .null, .null, .null, .null, .null, .null, .int 0, .null, .null, .null, .int 0, .int 0, .null, .int 0, .int 0, .null, .int 0, .null, .null, .null, .null, .int 0, .int 0, .int 0, .null, .null, .null, .null, .null, .int 0, .int 0, .int 0, .null, .null]
theorem fsS7 (tw : Nat) : (fsT6 tw).set 12 (.ref (tw + 6)) = fsT7 tw := rfl
theorem fsL7 (tw : Nat) : 12 < (fsT6 tw).length := Nat.le_of_ble_eq_true rfl
def fsT8 (tw : Nat) : List Value := [.int 0, .ref (tw + 1), .int 0, .ref (tw + 2), .ref (tw + 3), .ref (tw + 4), .ref (tw + 5), .int 0, .int 0, .int (-1), .int 0, .int 0, .ref (tw + 6), .ref (tw + 7), .null, .null, .null, .null, .null, .null, .null, .null, .null, .null, .null, .int 0, .null, .null, .null, .int 0, .int 0, .null, .int 0, .int 0, .null, .int 0, .null, .null, .null, .null, .int 0, .int 0, .int 0, .null, .null, .null, .null, .null, .int 0, .int 0, .int 0, .null, .null]
theorem fsS8 (tw : Nat) : (fsT7 tw).set 13 (.ref (tw + 7)) = fsT8 tw := rfl
theorem fsL8 (tw : Nat) : 13 < (fsT7 tw).length := Nat.le_of_ble_eq_true rfl
def fsT9 (tw : Nat) : List Value := [.int 0, .ref (tw + 1), .int 0, .ref (tw + 2), .ref (tw + 3), .ref (tw + 4), .ref (tw + 5), .int 0, .int 0, .int (-1), .int 0, .int 0, .ref (tw + 6), .ref (tw + 7), .ref (tw + 8), .null, .null, .null, .null, .null, .null, .null, .null, .null, .null, .int 0, .null, .null, .null, .int 0, .int 0, .null, .int 0, .int 0, .null, .int 0, .null, .null, .null, .null, .int 0, .int 0, .int 0, .null, .null, .null, .null, .null, .int 0, .int 0, .int 0, .null, .null]
theorem fsS9 (tw : Nat) : (fsT8 tw).set 14 (.ref (tw + 8)) = fsT9 tw := rfl
theorem fsL9 (tw : Nat) : 14 < (fsT8 tw).length := Nat.le_of_ble_eq_true rfl
def fsT10 (tw : Nat) : List Value := [.int 0, .ref (tw + 1), .int 0, .ref (tw + 2), .ref (tw + 3), .ref (tw + 4), .ref (tw + 5), .int 0, .int 0, .int (-1), .int 0, .int 0, .ref (tw + 6), .ref (tw + 7), .ref (tw + 8), .ref (tw + 9), .null, .null, .null, .null, .null, .null, .null, .null, .null, .int 0, .null, .null, .null, .int 0, .int 0, .null, .int 0, .int 0, .null, .int 0, .null, .null, .null, .null, .int 0, .int 0, .int 0, .null, .null, .null, .null, .null, .int 0, .int 0, .int 0, .null, .null]
theorem fsS10 (tw : Nat) : (fsT9 tw).set 15 (.ref (tw + 9)) = fsT10 tw := rfl
theorem fsL10 (tw : Nat) : 15 < (fsT9 tw).length := Nat.le_of_ble_eq_true rfl
def fsT11 (tw : Nat) : List Value := [.int 0, .ref (tw + 1), .int 0, .ref (tw + 2), .ref (tw + 3), .ref (tw + 4), .ref (tw + 5), .int 0, .int 0, .int (-1), .int 0, .int 0, .ref (tw + 6), .ref (tw + 7), .ref (tw + 8), .ref (tw + 9), .ref (tw + 10), .null, .null, .null, .null, .null, .null, .null, .null, .int 0, .null, .null, .null, .int 0, .int 0, .null, .int 0, .int 0, .null, .int 0, .null, .null, .null, .null, .int 0, .int 0, .int 0, .null, .null, .null, .null, .null, .int 0, .int 0, .int 0, .null, .null]
theorem fsS11 (tw : Nat) : (fsT10 tw).set 16 (.ref (tw + 10)) = fsT11 tw := rfl
theorem fsL11 (tw : Nat) : 16 < (fsT10 tw).length := Nat.le_of_ble_eq_true rfl
def fsT12 (tw : Nat) : List Value := [.int 0, .ref (tw + 1), .int 0, .ref (tw + 2), .ref (tw + 3), .ref (tw + 4), .ref (tw + 5), .int 0, .int 0, .int (-1), .int 0, .int 0, .ref (tw + 6), .ref (tw + 7), .ref (tw + 8), .ref (tw + 9), .ref (tw + 10), .ref (tw + 11), .null, .null, .null, .null, .null, .null, .null, .int 0, .null, .null, .null, .int 0, .int 0, .null, .int 0, .int 0, .null, .int 0, .null, .null, .null, .null, .int 0, .int 0, .int 0, .null, .null, .null, .null, .null, .int 0, .int 0, .int 0, .null, .null]
theorem fsS12 (tw : Nat) : (fsT11 tw).set 17 (.ref (tw + 11)) = fsT12 tw := rfl
theorem fsL12 (tw : Nat) : 17 < (fsT11 tw).length := Nat.le_of_ble_eq_true rfl
def fsT13 (tw : Nat) : List Value := [.int 0, .ref (tw + 1), .int 0, .ref (tw + 2), .ref (tw + 3), .ref (tw + 4), .ref (tw + 5), .int 0, .int 0, .int (-1), .int 0, .int 0, .ref (tw + 6), .ref (tw + 7), .ref (tw + 8), .ref (tw + 9), .ref (tw + 10), .ref (tw + 11), .ref (tw + 12), .null, .null, .null, .null, .null, .null, .int 0, .null, .null, .null, .int 0, .int 0, .null, .int 0, .int 0, .null, .int 0, .null, .null, .null, .null, .int 0, .int 0, .int 0, .null, .null, .null, .null, .null, .int 0, .int 0, .int 0, .null, .null]
theorem fsS13 (tw : Nat) : (fsT12 tw).set 18 (.ref (tw + 12)) = fsT13 tw := rfl
theorem fsL13 (tw : Nat) : 18 < (fsT12 tw).length := Nat.le_of_ble_eq_true rfl
def fsT14 (tw : Nat) : List Value := [.int 0, .ref (tw + 1), .int 0, .ref (tw + 2), .ref (tw + 3), .ref (tw + 4), .ref (tw + 5), .int 0, .int 0, .int (-1), .int 0, .int 0, .ref (tw + 6), .ref (tw + 7), .ref (tw + 8), .ref (tw + 9), .ref (tw + 10), .ref (tw + 11), .ref (tw + 12), .ref (tw + 13), .null, .null, .null, .null, .null, .int 0, .null, .null, .null, .int 0, .int 0, .null, .int 0, .int 0, .null, .int 0, .null, .null, .null, .null, .int 0, .int 0, .int 0, .null, .null, .null, .null, .null, .int 0, .int 0, .int 0, .null, .null]
theorem fsS14 (tw : Nat) : (fsT13 tw).set 19 (.ref (tw + 13)) = fsT14 tw := rfl
theorem fsL14 (tw : Nat) : 19 < (fsT13 tw).length := Nat.le_of_ble_eq_true rfl
def fsT15 (tw : Nat) : List Value := [.int 0, .ref (tw + 1), .int 0, .ref (tw + 2), .ref (tw + 3), .ref (tw + 4), .ref (tw + 5), .int 0, .int 0, .int (-1), .int 0, .int 0, .ref (tw + 6), .ref (tw + 7), .ref (tw + 8), .ref (tw + 9), .ref (tw + 10), .ref (tw + 11), .ref (tw + 12), .ref (tw + 13), .ref (tw + 14), .null, .null, .null, .null, .int 0, .null, .null, .null, .int 0, .int 0, .null, .int 0, .int 0, .null, .int 0, .null, .null, .null, .null, .int 0, .int 0, .int 0, .null, .null, .null, .null, .null, .int 0, .int 0, .int 0, .null, .null]
theorem fsS15 (tw : Nat) : (fsT14 tw).set 20 (.ref (tw + 14)) = fsT15 tw := rfl
theorem fsL15 (tw : Nat) : 20 < (fsT14 tw).length := Nat.le_of_ble_eq_true rfl
def fsT16 (tw : Nat) : List Value := [.int 0, .ref (tw + 1), .int 0, .ref (tw + 2), .ref (tw + 3), .ref (tw + 4), .ref (tw + 5), .int 0, .int 0, .int (-1), .int 0, .int 0, .ref (tw + 6), .ref (tw + 7), .ref (tw + 8), .ref (tw + 9), .ref (tw + 10), .ref (tw + 11), .ref (tw + 12), .ref (tw + 13), .ref (tw + 14), .ref (tw + 15), .null, .null, .null, .int 0, .null, .null, .null, .int 0, .int 0, .null, .int 0, .int 0, .null, .int 0, .null, .null, .null, .null, .int 0, .int 0, .int 0, .null, .null, .null, .null, .null, .int 0, .int 0, .int 0, .null, .null]
theorem fsS16 (tw : Nat) : (fsT15 tw).set 21 (.ref (tw + 15)) = fsT16 tw := rfl
theorem fsL16 (tw : Nat) : 21 < (fsT15 tw).length := Nat.le_of_ble_eq_true rfl
def fsT17 (tw : Nat) : List Value := [.int 0, .ref (tw + 1), .int 0, .ref (tw + 2), .ref (tw + 3), .ref (tw + 4), .ref (tw + 5), .int 0, .int 0, .int (-1), .int 0, .int 0, .ref (tw + 6), .ref (tw + 7), .ref (tw + 8), .ref (tw + 9), .ref (tw + 10), .ref (tw + 11), .ref (tw + 12), .ref (tw + 13), .ref (tw + 14), .ref (tw + 15), .ref (tw + 16), .null, .null, .int 0, .null, .null, .null, .int 0, .int 0, .null, .int 0, .int 0, .null, .int 0, .null, .null, .null, .null, .int 0, .int 0, .int 0, .null, .null, .null, .null, .null, .int 0, .int 0, .int 0, .null, .null]
theorem fsS17 (tw : Nat) : (fsT16 tw).set 22 (.ref (tw + 16)) = fsT17 tw := rfl
theorem fsL17 (tw : Nat) : 22 < (fsT16 tw).length := Nat.le_of_ble_eq_true rfl
def fsT18 (tw : Nat) : List Value := [.int 0, .ref (tw + 1), .int 0, .ref (tw + 2), .ref (tw + 3), .ref (tw + 4), .ref (tw + 5), .int 0, .int 0, .int (-1), .int 0, .int 0, .ref (tw + 6), .ref (tw + 7), .ref (tw + 8), .ref (tw + 9), .ref (tw + 10), .ref (tw + 11), .ref (tw + 12), .ref (tw + 13), .ref (tw + 14), .ref (tw + 15), .ref (tw + 16), .ref (tw + 17), .null, .int 0, .null, .null, .null, .int 0, .int 0, .null, .int 0, .int 0, .null, .int 0, .null, .null, .null, .null, .int 0, .int 0, .int 0, .null, .null, .null, .null, .null, .int 0, .int 0, .int 0, .null, .null]
theorem fsS18 (tw : Nat) : (fsT17 tw).set 23 (.ref (tw + 17)) = fsT18 tw := rfl
theorem fsL18 (tw : Nat) : 23 < (fsT17 tw).length := Nat.le_of_ble_eq_true rfl
def fsT19 (tw : Nat) : List Value := [.int 0, .ref (tw + 1), .int 0, .ref (tw + 2), .ref (tw + 3), .ref (tw + 4), .ref (tw + 5), .int 0, .int 0, .int (-1), .int 0, .int 0, .ref (tw + 6), .ref (tw + 7), .ref (tw + 8), .ref (tw + 9), .ref (tw + 10), .ref (tw + 11), .ref (tw + 12), .ref (tw + 13), .ref (tw + 14), .ref (tw + 15), .ref (tw + 16), .ref (tw + 17), .ref (tw + 18), .int 0, .null, .null, .null, .int 0, .int 0, .null, .int 0, .int 0, .null, .int 0, .null, .null, .null, .null, .int 0, .int 0, .int 0, .null, .null, .null, .null, .null, .int 0, .int 0, .int 0, .null, .null]
theorem fsS19 (tw : Nat) : (fsT18 tw).set 24 (.ref (tw + 18)) = fsT19 tw := rfl
theorem fsL19 (tw : Nat) : 24 < (fsT18 tw).length := Nat.le_of_ble_eq_true rfl
def fsT20 (tw : Nat) : List Value := [.int 0, .ref (tw + 1), .int 0, .ref (tw + 2), .ref (tw + 3), .ref (tw + 4), .ref (tw + 5), .int 0, .int 0, .int (-1), .int 0, .int 0, .ref (tw + 6), .ref (tw + 7), .ref (tw + 8), .ref (tw + 9), .ref (tw + 10), .ref (tw + 11), .ref (tw + 12), .ref (tw + 13), .ref (tw + 14), .ref (tw + 15), .ref (tw + 16), .ref (tw + 17), .ref (tw + 18), .int 0, .ref (tw + 19), .null, .null, .int 0, .int 0, .null, .int 0, .int 0, .null, .int 0, .null, .null, .null, .null, .int 0, .int 0, .int 0, .null, .null, .null, .null, .null, .int 0, .int 0, .int 0, .null, .null]
theorem fsS20 (tw : Nat) : (fsT19 tw).set 26 (.ref (tw + 19)) = fsT20 tw := rfl
theorem fsL20 (tw : Nat) : 26 < (fsT19 tw).length := Nat.le_of_ble_eq_true rfl
def fsT21 (tw : Nat) : List Value := [.int 0, .ref (tw + 1), .int 0, .ref (tw + 2), .ref (tw + 3), .ref (tw + 4), .ref (tw + 5), .int 0, .int 0, .int (-1), .int 0, .int 0, .ref (tw + 6), .ref (tw + 7), .ref (tw + 8), .ref (tw + 9), .ref (tw + 10), .ref (tw + 11), .ref (tw + 12), .ref (tw + 13), .ref (tw + 14), .ref (tw + 15), .ref (tw + 16), .ref (tw + 17), .ref (tw + 18), .int 0, .ref (tw + 19), .ref (tw + 20), .null, .int 0, .int 0, .null, .int 0, .int 0, .null, .int 0, .null, .null, .null, .null, .int 0, .int 0, .int 0, .null, .null, .null, .null, .null, .int 0, .int 0, .int 0, .null, .null]
theorem fsS21 (tw : Nat) : (fsT20 tw).set 27 (.ref (tw + 20)) = fsT21 tw := rfl
theorem fsL21 (tw : Nat) : 27 < (fsT20 tw).length := Nat.le_of_ble_eq_true rfl
def fsT22 (tw : Nat) : List Value := [.int 0, .ref (tw + 1), .int 0, .ref (tw + 2), .ref (tw + 3), .ref (tw + 4), .ref (tw + 5), .int 0, .int 0, .int (-1), .int 0, .int 0, .ref (tw + 6), .ref (tw + 7), .ref (tw + 8), .ref (tw + 9), .ref (tw + 10), .ref (tw + 11), .ref (tw + 12), .ref (tw + 13), .ref (tw + 14), .ref (tw + 15), .ref (tw + 16), .ref (tw + 17), .ref (tw + 18), .int 0, .ref (tw + 19), .ref (tw + 20), .ref (tw + 21), .int 0, .int 0, .null, .int 0, .int 0, .null, .int 0, .null, .null, .null, .null, .int 0, .int 0, .int 0, .null, .null, .null, .null, .null, .int 0, .int 0, .int 0, .null, .null]
theorem fsS22 (tw : Nat) : (fsT21 tw).set 28 (.ref (tw + 21)) = fsT22 tw := rfl
theorem fsL22 (tw : Nat) : 28 < (fsT21 tw).length := Nat.le_of_ble_eq_true rfl
def fsT23 (tw : Nat) : List Value := [.int 0, .ref (tw + 1), .int 0, .ref (tw + 2), .ref (tw + 3), .ref (tw + 4), .ref (tw + 5), .int 0, .int 0, .int (-1), .int 0, .int 0, .ref (tw + 6), .ref (tw + 7), .ref (tw + 8), .ref (tw + 9), .ref (tw + 10), .ref (tw + 11), .ref (tw + 12), .ref (tw + 13), .ref (tw + 14), .ref (tw + 15), .ref (tw + 16), .ref (tw + 17), .ref (tw + 18), .int 0, .ref (tw + 19), .ref (tw + 20), .ref (tw + 21), .int 0, .int 0, .ref (tw + 22), .int 0, .int 0, .null, .int 0, .null, .null, .null, .null, .int 0, .int 0, .int 0, .null, .null, .null, .null, .null, .int 0, .int 0, .int 0, .null, .null]
theorem fsS23 (tw : Nat) : (fsT22 tw).set 31 (.ref (tw + 22)) = fsT23 tw := rfl
theorem fsL23 (tw : Nat) : 31 < (fsT22 tw).length := Nat.le_of_ble_eq_true rfl
def fsT24 (tw : Nat) : List Value := [.int 0, .ref (tw + 1), .int 0, .ref (tw + 2), .ref (tw + 3), .ref (tw + 4), .ref (tw + 5), .int 0, .int 0, .int (-1), .int 0, .int 0, .ref (tw + 6), .ref (tw + 7), .ref (tw + 8), .ref (tw + 9), .ref (tw + 10), .ref (tw + 11), .ref (tw + 12), .ref (tw + 13), .ref (tw + 14), .ref (tw + 15), .ref (tw + 16), .ref (tw + 17), .ref (tw + 18), .int 0, .ref (tw + 19), .ref (tw + 20), .ref (tw + 21), .int 0, .int 0, .ref (tw + 22), .int 0, .int 0, .ref (tw + 23), .int 0, .null, .null, .null, .null, .int 0, .int 0, .int 0, .null, .null, .null, .null, .null, .int 0, .int 0, .int 0, .null, .null]
theorem fsS24 (tw : Nat) : (fsT23 tw).set 34 (.ref (tw + 23)) = fsT24 tw := rfl
theorem fsL24 (tw : Nat) : 34 < (fsT23 tw).length := Nat.le_of_ble_eq_true rfl
def fsT25 (tw : Nat) : List Value := [.int 0, .ref (tw + 1), .int 0, .ref (tw + 2), .ref (tw + 3), .ref (tw + 4), .ref (tw + 5), .int 0, .int 0, .int (-1), .int 0, .int 0, .ref (tw + 6), .ref (tw + 7), .ref (tw + 8), .ref (tw + 9), .ref (tw + 10), .ref (tw + 11), .ref (tw + 12), .ref (tw + 13), .ref (tw + 14), .ref (tw + 15), .ref (tw + 16), .ref (tw + 17), .ref (tw + 18), .int 0, .ref (tw + 19), .ref (tw + 20), .ref (tw + 21), .int 0, .int 0, .ref (tw + 22), .int 0, .int 0, .ref (tw + 23), .int 0, .ref (tw + 24), .null, .null, .null, .int 0, .int 0, .int 0, .null, .null, .null, .null, .null, .int 0, .int 0, .int 0, .null, .null]
theorem fsS25 (tw : Nat) : (fsT24 tw).set 36 (.ref (tw + 24)) = fsT25 tw := rfl
theorem fsL25 (tw : Nat) : 36 < (fsT24 tw).length := Nat.le_of_ble_eq_true rfl
def fsT26 (tw : Nat) : List Value := [.int 0, .ref (tw + 1), .int 0, .ref (tw + 2), .ref (tw + 3), .ref (tw + 4), .ref (tw + 5), .int 0, .int 0, .int (-1), .int 0, .int 0, .ref (tw + 6), .ref (tw + 7), .ref (tw + 8), .ref (tw + 9), .ref (tw + 10), .ref (tw + 11), .ref (tw + 12), .ref (tw + 13), .ref (tw + 14), .ref (tw + 15), .ref (tw + 16), .ref (tw + 17), .ref (tw + 18), .int 0, .ref (tw + 19), .ref (tw + 20), .ref (tw + 21), .int 0, .int 0, .ref (tw + 22), .int 0, .int 0, .ref (tw + 23), .int 0, .ref (tw + 24), .ref (tw + 25), .null, .null, .int 0, .int 0, .int 0, .null, .null, .null, .null, .null, .int 0, .int 0, .int 0, .null, .null]
theorem fsS26 (tw : Nat) : (fsT25 tw).set 37 (.ref (tw + 25)) = fsT26 tw := rfl
theorem fsL26 (tw : Nat) : 37 < (fsT25 tw).length := Nat.le_of_ble_eq_true rfl
def fsT27 (tw : Nat) : List Value := [.int 0, .ref (tw + 1), .int 0, .ref (tw + 2), .ref (tw + 3), .ref (tw + 4), .ref (tw + 5), .int 0, .int 0, .int (-1), .int 0, .int 0, .ref (tw + 6), .ref (tw + 7), .ref (tw + 8), .ref (tw + 9), .ref (tw + 10), .ref (tw + 11), .ref (tw + 12), .ref (tw + 13), .ref (tw + 14), .ref (tw + 15), .ref (tw + 16), .ref (tw + 17), .ref (tw + 18), .int 0, .ref (tw + 19), .ref (tw + 20), .ref (tw + 21), .int 0, .int 0, .ref (tw + 22), .int 0, .int 0, .ref (tw + 23), .int 0, .ref (tw + 24), .ref (tw + 25), .ref (tw + 26), .null, .int 0, .int 0, .int 0, .null, .null, .null, .null, .null, .int 0, .int 0, .int 0, .null, .null]
theorem fsS27 (tw : Nat) : (fsT26 tw).set 38 (.ref (tw + 26)) = fsT27 tw := rfl
theorem fsL27 (tw : Nat) : 38 < (fsT26 tw).length := Nat.le_of_ble_eq_true rfl
def fsT28 (tw : Nat) : List Value := [.int 0, .ref (tw + 1), .int 0, .ref (tw + 2), .ref (tw + 3), .ref (tw + 4), .ref (tw + 5), .int 0, .int 0, .int (-1), .int 0, .int 0, .ref (tw + 6), .ref (tw + 7), .ref (tw + 8), .ref (tw + 9), .ref (tw + 10), .ref (tw + 11), .ref (tw + 12), .ref (tw + 13), .ref (tw + 14), .ref (tw + 15), .ref (tw + 16), .ref (tw + 17), .ref (tw + 18), .int 0, .ref (tw + 19), .ref (tw + 20), .ref (tw + 21), .int 0, .int 0, .ref (tw + 22), .int 0, .int 0, .ref (tw + 23), .int 0, .ref (tw + 24), .ref (tw + 25), .ref (tw + 26), .ref (tw + 27), .int 0, .int 0, .int 0, .null, .null, .null, .null, .null, .int 0, .int 0, .int 0, .null, .null]
theorem fsS28 (tw : Nat) : (fsT27 tw).set 39 (.ref (tw + 27)) = fsT28 tw := rfl
theorem fsL28 (tw : Nat) : 39 < (fsT27 tw).length := Nat.le_of_ble_eq_true rfl
def fsT29 (tw : Nat) : List Value := [.int 0, .ref (tw + 1), .int 0, .ref (tw + 2), .ref (tw + 3), .ref (tw + 4), .ref (tw + 5), .int 0, .int 0, .int (-1), .int 0, .int 0, .ref (tw + 6), .ref (tw + 7), .ref (tw + 8), .ref (tw + 9), .ref (tw + 10), .ref (tw + 11), .ref (tw + 12), .ref (tw + 13), .ref (tw + 14), .ref (tw + 15), .ref (tw + 16), .ref (tw + 17), .ref (tw + 18), .int 0, .ref (tw + 19), .ref (tw + 20), .ref (tw + 21), .int 0, .int 0, .ref (tw + 22), .int 0, .int 0, .ref (tw + 23), .int 0, .ref (tw + 24), .ref (tw + 25), .ref (tw + 26), .ref (tw + 27), .int 0, .int 0, .int 0, .ref (tw + 28), .null, .null, .null, .null, .int 0, .int 0, .int 0, .null, .null]
theorem fsS29 (tw : Nat) : (fsT28 tw).set 43 (.ref (tw + 28)) = fsT29 tw := rfl
theorem fsL29 (tw : Nat) : 43 < (fsT28 tw).length := Nat.le_of_ble_eq_true rfl
def fsT30 (tw : Nat) : List Value := [.int 0, .ref (tw + 1), .int 0, .ref (tw + 2), .ref (tw + 3), .ref (tw + 4), .ref (tw + 5), .int 0, .int 0, .int (-1), .int 0, .int 0, .ref (tw + 6), .ref (tw + 7), .ref (tw + 8), .ref (tw + 9), .ref (tw + 10), .ref (tw + 11), .ref (tw + 12), .ref (tw + 13), .ref (tw + 14), .ref (tw + 15), .ref (tw + 16), .ref (tw + 17), .ref (tw + 18), .int 0, .ref (tw + 19), .ref (tw + 20), .ref (tw + 21), .int 0, .int 0, .ref (tw + 22), .int 0, .int 0, .ref (tw + 23), .int 0, .ref (tw + 24), .ref (tw + 25), .ref (tw + 26), .ref (tw + 27), .int 0, .int 0, .int 0, .ref (tw + 28), .ref (tw + 29), .null, .null, .null, .int 0, .int 0, .int 0, .null, .null]
theorem fsS30 (tw : Nat) : (fsT29 tw).set 44 (.ref (tw + 29)) = fsT30 tw := rfl
theorem fsL30 (tw : Nat) : 44 < (fsT29 tw).length := Nat.le_of_ble_eq_true rfl
def fsT31 (tw : Nat) : List Value := [.int 0, .ref (tw + 1), .int 0, .ref (tw + 2), .ref (tw + 3), .ref (tw + 4), .ref (tw + 5), .int 0, .int 0, .int (-1), .int 0, .int 0, .ref (tw + 6), .ref (tw + 7), .ref (tw + 8), .ref (tw + 9), .ref (tw + 10), .ref (tw + 11), .ref (tw + 12), .ref (tw + 13), .ref (tw + 14), .ref (tw + 15), .ref (tw + 16), .ref (tw + 17), .ref (tw + 18), .int 0, .ref (tw + 19), .ref (tw + 20), .ref (tw + 21), .int 0, .int 0, .ref (tw + 22), .int 0, .int 0, .ref (tw + 23), .int 0, .ref (tw + 24), .ref (tw + 25), .ref (tw + 26), .ref (tw + 27), .int 0, .int 0, .int 0, .ref (tw + 28), .ref (tw + 29), .ref (tw + 30), .null, .null, .int 0, .int 0, .int 0, .null, .null]
theorem fsS31 (tw : Nat) : (fsT30 tw).set 45 (.ref (tw + 30)) = fsT31 tw := rfl
theorem fsL31 (tw : Nat) : 45 < (fsT30 tw).length := Nat.le_of_ble_eq_true rfl
def fsT32 (tw : Nat) : List Value := [.int 0, .ref (tw + 1), .int 0, .ref (tw + 2), .ref (tw + 3), .ref (tw + 4), .ref (tw + 5), .int 0, .int 0, .int (-1), .int 0, .int 0, .ref (tw + 6), .ref (tw + 7), .ref (tw + 8), .ref (tw + 9), .ref (tw + 10), .ref (tw + 11), .ref (tw + 12), .ref (tw + 13), .ref (tw + 14), .ref (tw + 15), .ref (tw + 16), .ref (tw + 17), .ref (tw + 18), .int 0, .ref (tw + 19), .ref (tw + 20), .ref (tw + 21), .int 0, .int 0, .ref (tw + 22), .int 0, .int 0, .ref (tw + 23), .int 0, .ref (tw + 24), .ref (tw + 25), .ref (tw + 26), .ref (tw + 27), .int 0, .int 0, .int 0, .ref (tw + 28), .ref (tw + 29), .ref (tw + 30), .ref (tw + 31), .null, .int 0, .int 0, .int 0, .null, .null]
theorem fsS32 (tw : Nat) : (fsT31 tw).set 46 (.ref (tw + 31)) = fsT32 tw := rfl
theorem fsL32 (tw : Nat) : 46 < (fsT31 tw).length := Nat.le_of_ble_eq_true rfl
def fsT33 (tw : Nat) : List Value := [.int 0, .ref (tw + 1), .int 0, .ref (tw + 2), .ref (tw + 3), .ref (tw + 4), .ref (tw + 5), .int 0, .int 0, .int (-1), .int 0, .int 0, .ref (tw + 6), .ref (tw + 7), .ref (tw + 8), .ref (tw + 9), .ref (tw + 10), .ref (tw + 11), .ref (tw + 12), .ref (tw + 13), .ref (tw + 14), .ref (tw + 15), .ref (tw + 16), .ref (tw + 17), .ref (tw + 18), .int 0, .ref (tw + 19), .ref (tw + 20), .ref (tw + 21), .int 0, .int 0, .ref (tw + 22), .int 0, .int 0, .ref (tw + 23), .int 0, .ref (tw + 24), .ref (tw + 25), .ref (tw + 26), .ref (tw + 27), .int 0, .int 0, .int 0, .ref (tw + 28), .ref (tw + 29), .ref (tw + 30), .ref (tw + 31), .ref (tw + 32), .int 0, .int 0, .int 0, .null, .null]
theorem fsS33 (tw : Nat) : (fsT32 tw).set 47 (.ref (tw + 32)) = fsT33 tw := rfl
theorem fsL33 (tw : Nat) : 47 < (fsT32 tw).length := Nat.le_of_ble_eq_true rfl
def fsT34 (tw : Nat) : List Value := [.int 0, .ref (tw + 1), .int 0, .ref (tw + 2), .ref (tw + 3), .ref (tw + 4), .ref (tw + 5), .int 0, .int 0, .int (-1), .int 0, .int 0, .ref (tw + 6), .ref (tw + 7), .ref (tw + 8), .ref (tw + 9), .ref (tw + 10), .ref (tw + 11), .ref (tw + 12), .ref (tw + 13), .ref (tw + 14), .ref (tw + 15), .ref (tw + 16), .ref (tw + 17), .ref (tw + 18), .int 0, .ref (tw + 19), .ref (tw + 20), .ref (tw + 21), .int 0, .int 0, .ref (tw + 22), .int 0, .int 0, .ref (tw + 23), .int 0, .ref (tw + 24), .ref (tw + 25), .ref (tw + 26), .ref (tw + 27), .int 0, .int 0, .int 0, .ref (tw + 28), .ref (tw + 29), .ref (tw + 30), .ref (tw + 31), .ref (tw + 32), .int 0, .int 0, .int 0, .ref (tw + 33), .null]
theorem fsS34 (tw : Nat) : (fsT33 tw).set 51 (.ref (tw + 33)) = fsT34 tw := rfl
theorem fsL34 (tw : Nat) : 51 < (fsT33 tw).length := Nat.le_of_ble_eq_true rfl
def fsT35 (tw : Nat) : List Value := [.int 0, .ref (tw + 1), .int 0, .ref (tw + 2), .ref (tw + 3), .ref (tw + 4), .ref (tw + 5), .int 0, .int 0, .int (-1), .int 0, .int 0, .ref (tw + 6), .ref (tw + 7), .ref (tw + 8), .ref (tw + 9), .ref (tw + 10), .ref (tw + 11), .ref (tw + 12), .ref (tw + 13), .ref (tw + 14), .ref (tw + 15), .ref (tw + 16), .ref (tw + 17), .ref (tw + 18), .int 0, .ref (tw + 19), .ref (tw + 20), .ref (tw + 21), .int 0, .int 0, .ref (tw + 22), .int 0, .int 0, .ref (tw + 23), .int 0, .ref (tw + 24), .ref (tw + 25), .ref (tw + 26), .ref (tw + 27), .int 0, .int 0, .int 0, .ref (tw + 28), .ref (tw + 29), .ref (tw + 30), .ref (tw + 31), .ref (tw + 32), .int 0, .int 0, .int 0, .ref (tw + 33), .ref (tw + 34)]
theorem fsS35 (tw : Nat) : (fsT34 tw).set 52 (.ref (tw + 34)) = fsT35 tw := rfl
theorem fsL35 (tw : Nat) : 52 < (fsT34 tw).length := Nat.le_of_ble_eq_true rfl
theorem fsE (tw : Nat) : fsT35 tw = tF tw τ0 := rfl
set_option maxHeartbeats 4000000 in
theorem ok_X9_init {g : Gx} (F tw sl : Nat) (M : Nat → Option Ob) (ro : Nat → Nat) {τF : Tw} (hf : t_X9_init F = some τF) : Cl g 4 yX9_init cX9_init 1 none [.ref tw] (iT tw 0 dfX9 M sl ro) none (mT tw τF (M, tw + 35, sl + 20474, ro)) := by
  unfold t_X9_init at hf
  obtain ⟨τ1, h1, h2⟩ := ob hf
  refine Cl.of (own := RX9) (ini := true) (by decide +kernel) rfl (fun _ => rfl) (Nat.le_of_ble_eq_true rfl) ?_
  show PW g mX9_init 4 (iT tw 0 dfX9 M sl ro) (mT tw τF (M, tw + 35, sl + 20474, ro)) (QN g none (iT tw 0 dfX9 M sl ro) (mT tw τF (M, tw + 35, sl + 20474, ro))) 0 [(0, .ref tw)] [] (iT tw 0 (fsT0 tw) M sl ro)
  refine P.aload_n 0 (pc' := 1) dX9_init_0 rfl rfl rfl ?_
  refine P.objInit (pc' := 4) q1538 q202 q203 (by decide) (by decide) dX9_init_1 rfl ?_
  refine P.aload_n 0 (pc' := 5) dX9_init_4 rfl rfl rfl ?_
  refine P.sipush (v := 2000) (pc' := 8) dX9_init_5 rfl rfl ?_
  refine P.newarrE (t := 0) (atype := .int) (N := 2000) (x := (2000, .inl fun _ => 0)) (pc' := 10) q270 rfl (by decide) (fun _ _ h => h) rfl (fun _ => rfl) (by decide) (by decide) (Nat.le_of_ble_eq_true rfl) (iT_new (tw := tw) (j := 0) (sl := sl) (M := M) (ro := ro) (fs := fsT0 tw) (j' := 1) (sl' := sl + 2000) rfl (by omega) rfl) dX9_init_8 rfl ?_
  refine P.putF (v := .ref (tw + 1)) (pc' := 13) ci9 1 (by decide) (iT_put (fs := fsT0 tw) (fs' := fsT1 tw) (fsL1 tw) (fsS1 tw)) q1556 (Or.inl rfl) rfl rfl rfl rfl rfl dX9_init_10 rfl ?_
  refine P.aload_n 0 (pc' := 14) dX9_init_13 rfl rfl rfl ?_
  refine P.sipush (v := 2001) (pc' := 17) dX9_init_14 rfl rfl ?_
  refine P.newarrE (t := 0) (atype := .int) (N := 2001) (x := (2001, .inl fun _ => 0)) (pc' := 19) q270 rfl (by decide) (fun _ _ h => h) rfl (fun _ => rfl) (by decide) (by decide) (Nat.le_of_ble_eq_true rfl) (iT_new (tw := tw) (j := 1) (sl := sl + 2000) (M := M) (ro := ro) (fs := fsT1 tw) (j' := 2) (sl' := sl + 4001) rfl (by omega) rfl) dX9_init_17 rfl ?_
  refine P.putF (v := .ref (tw + 2)) (pc' := 22) ci9 3 (by decide) (iT_put (fs := fsT1 tw) (fs' := fsT2 tw) (fsL2 tw) (fsS2 tw)) q1558 (Or.inl rfl) rfl rfl rfl rfl rfl dX9_init_19 rfl ?_
  refine P.aload_n 0 (pc' := 23) dX9_init_22 rfl rfl rfl ?_
  refine P.sipush (v := 2001) (pc' := 26) dX9_init_23 rfl rfl ?_
  refine P.newarrE (t := 0) (atype := .int) (N := 2001) (x := (2001, .inl fun _ => 0)) (pc' := 28) q270 rfl (by decide) (fun _ _ h => h) rfl (fun _ => rfl) (by decide) (by decide) (Nat.le_of_ble_eq_true rfl) (iT_new (tw := tw) (j := 2) (sl := sl + 4001) (M := M) (ro := ro) (fs := fsT2 tw) (j' := 3) (sl' := sl + 6002) rfl (by omega) rfl) dX9_init_26 rfl ?_
  refine P.putF (v := .ref (tw + 3)) (pc' := 31) ci9 4 (by decide) (iT_put (fs := fsT2 tw) (fs' := fsT3 tw) (fsL3 tw) (fsS3 tw)) q1559 (Or.inl rfl) rfl rfl rfl rfl rfl dX9_init_28 rfl ?_
  refine P.aload_n 0 (pc' := 32) dX9_init_31 rfl rfl rfl ?_
  refine P.sipush (v := 2001) (pc' := 35) dX9_init_32 rfl rfl ?_
  refine P.newarrE (t := 0) (atype := .int) (N := 2001) (x := (2001, .inl fun _ => 0)) (pc' := 37) q270 rfl (by decide) (fun _ _ h => h) rfl (fun _ => rfl) (by decide) (by decide) (Nat.le_of_ble_eq_true rfl) (iT_new (tw := tw) (j := 3) (sl := sl + 6002) (M := M) (ro := ro) (fs := fsT3 tw) (j' := 4) (sl' := sl + 8003) rfl (by omega) rfl) dX9_init_35 rfl ?_
  refine P.putF (v := .ref (tw + 4)) (pc' := 40) ci9 5 (by decide) (iT_put (fs := fsT3 tw) (fs' := fsT4 tw) (fsL4 tw) (fsS4 tw)) q1560 (Or.inl rfl) rfl rfl rfl rfl rfl dX9_init_37 rfl ?_
  refine P.aload_n 0 (pc' := 41) dX9_init_40 rfl rfl rfl ?_
  refine P.sipush (v := 2001) (pc' := 44) dX9_init_41 rfl rfl ?_
  refine P.newarrE (t := 1) (atype := .long) (N := 2001) (x := (2001, .inr (.inl fun _ => 0))) (pc' := 46) q235 rfl (by decide) (fun _ _ h => h) rfl (fun _ => rfl) (by decide) (by decide) (Nat.le_of_ble_eq_true rfl) (iT_new (tw := tw) (j := 4) (sl := sl + 8003) (M := M) (ro := ro) (fs := fsT4 tw) (j' := 5) (sl' := sl + 10004) rfl (by omega) rfl) dX9_init_44 rfl ?_
  refine P.putF (v := .ref (tw + 5)) (pc' := 49) ci9 6 (by decide) (iT_put (fs := fsT4 tw) (fs' := fsT5 tw) (fsL5 tw) (fsS5 tw)) q1561 (Or.inl rfl) rfl rfl rfl rfl rfl dX9_init_46 rfl ?_
  refine P.aload_n 0 (pc' := 50) dX9_init_49 rfl rfl rfl ?_
  refine P.iconst (v := (-1)) (pc' := 51) dX9_init_50 rfl rfl ?_
  refine P.put (v := .int (-1)) (pc' := 54) ci9 9 (by decide) (iT_put (fs := fsT5 tw) (fs' := fsT6 tw) (fsL6 tw) (fsS6 tw)) q1564 (Or.inl rfl) rfl rfl rfl dX9_init_51 rfl ?_
  refine P.aload_n 0 (pc' := 55) dX9_init_54 rfl rfl rfl ?_
  refine P.sipush (v := 420) (pc' := 58) dX9_init_55 rfl rfl ?_
  refine P.newarrE (t := 0) (atype := .int) (N := 420) (x := (420, .inl fun _ => 0)) (pc' := 60) q270 rfl (by decide) (fun _ _ h => h) rfl (fun _ => rfl) (by decide) (by decide) (Nat.le_of_ble_eq_true rfl) (iT_new (tw := tw) (j := 5) (sl := sl + 10004) (M := M) (ro := ro) (fs := fsT6 tw) (j' := 6) (sl' := sl + 10424) rfl (by omega) rfl) dX9_init_58 rfl ?_
  refine P.putF (v := .ref (tw + 6)) (pc' := 63) ci9 12 (by decide) (iT_put (fs := fsT6 tw) (fs' := fsT7 tw) (fsL7 tw) (fsS7 tw)) q1567 (Or.inl rfl) rfl rfl rfl rfl rfl dX9_init_60 rfl ?_
  refine P.aload_n 0 (pc' := 64) dX9_init_63 rfl rfl rfl ?_
  refine P.sipush (v := 1260) (pc' := 67) dX9_init_64 rfl rfl ?_
  refine P.newarrE (t := 0) (atype := .int) (N := 1260) (x := (1260, .inl fun _ => 0)) (pc' := 69) q270 rfl (by decide) (fun _ _ h => h) rfl (fun _ => rfl) (by decide) (by decide) (Nat.le_of_ble_eq_true rfl) (iT_new (tw := tw) (j := 6) (sl := sl + 10424) (M := M) (ro := ro) (fs := fsT7 tw) (j' := 7) (sl' := sl + 11684) rfl (by omega) rfl) dX9_init_67 rfl ?_
  refine P.putF (v := .ref (tw + 7)) (pc' := 72) ci9 13 (by decide) (iT_put (fs := fsT7 tw) (fs' := fsT8 tw) (fsL8 tw) (fsS8 tw)) q1568 (Or.inl rfl) rfl rfl rfl rfl rfl dX9_init_69 rfl ?_
  refine P.aload_n 0 (pc' := 73) dX9_init_72 rfl rfl rfl ?_
  refine P.iconst (v := 2) (pc' := 74) dX9_init_73 rfl rfl ?_
  refine P.newarrE (t := 0) (atype := .int) (N := 2) (x := (2, .inl fun _ => 0)) (pc' := 76) q270 rfl (by decide) (fun _ _ h => h) rfl (fun _ => rfl) (by decide) (by decide) (Nat.le_of_ble_eq_true rfl) (iT_new (tw := tw) (j := 7) (sl := sl + 11684) (M := M) (ro := ro) (fs := fsT8 tw) (j' := 8) (sl' := sl + 11686) rfl (by omega) rfl) dX9_init_74 rfl ?_
  refine P.putF (v := .ref (tw + 8)) (pc' := 79) ci9 14 (by decide) (iT_put (fs := fsT8 tw) (fs' := fsT9 tw) (fsL9 tw) (fsS9 tw)) q1569 (Or.inl rfl) rfl rfl rfl rfl rfl dX9_init_76 rfl ?_
  refine P.aload_n 0 (pc' := 80) dX9_init_79 rfl rfl rfl ?_
  refine P.sipush (v := 1000) (pc' := 83) dX9_init_80 rfl rfl ?_
  refine P.newarrE (t := 0) (atype := .int) (N := 1000) (x := (1000, .inl fun _ => 0)) (pc' := 85) q270 rfl (by decide) (fun _ _ h => h) rfl (fun _ => rfl) (by decide) (by decide) (Nat.le_of_ble_eq_true rfl) (iT_new (tw := tw) (j := 8) (sl := sl + 11686) (M := M) (ro := ro) (fs := fsT9 tw) (j' := 9) (sl' := sl + 12686) rfl (by omega) rfl) dX9_init_83 rfl ?_
  refine P.putF (v := .ref (tw + 9)) (pc' := 88) ci9 15 (by decide) (iT_put (fs := fsT9 tw) (fs' := fsT10 tw) (fsL10 tw) (fsS10 tw)) q1570 (Or.inl rfl) rfl rfl rfl rfl rfl dX9_init_85 rfl ?_
  refine P.aload_n 0 (pc' := 89) dX9_init_88 rfl rfl rfl ?_
  refine P.sipush (v := 1000) (pc' := 92) dX9_init_89 rfl rfl ?_
  refine P.newarrE (t := 0) (atype := .int) (N := 1000) (x := (1000, .inl fun _ => 0)) (pc' := 94) q270 rfl (by decide) (fun _ _ h => h) rfl (fun _ => rfl) (by decide) (by decide) (Nat.le_of_ble_eq_true rfl) (iT_new (tw := tw) (j := 9) (sl := sl + 12686) (M := M) (ro := ro) (fs := fsT10 tw) (j' := 10) (sl' := sl + 13686) rfl (by omega) rfl) dX9_init_92 rfl ?_
  refine P.putF (v := .ref (tw + 10)) (pc' := 97) ci9 16 (by decide) (iT_put (fs := fsT10 tw) (fs' := fsT11 tw) (fsL11 tw) (fsS11 tw)) q1571 (Or.inl rfl) rfl rfl rfl rfl rfl dX9_init_94 rfl ?_
  refine P.aload_n 0 (pc' := 98) dX9_init_97 rfl rfl rfl ?_
  refine P.iconst (v := 2) (pc' := 99) dX9_init_98 rfl rfl ?_
  refine P.newarrE (t := 0) (atype := .int) (N := 2) (x := (2, .inl fun _ => 0)) (pc' := 101) q270 rfl (by decide) (fun _ _ h => h) rfl (fun _ => rfl) (by decide) (by decide) (Nat.le_of_ble_eq_true rfl) (iT_new (tw := tw) (j := 10) (sl := sl + 13686) (M := M) (ro := ro) (fs := fsT11 tw) (j' := 11) (sl' := sl + 13688) rfl (by omega) rfl) dX9_init_99 rfl ?_
  refine P.putF (v := .ref (tw + 11)) (pc' := 104) ci9 17 (by decide) (iT_put (fs := fsT11 tw) (fs' := fsT12 tw) (fsL12 tw) (fsS12 tw)) q1572 (Or.inl rfl) rfl rfl rfl rfl rfl dX9_init_101 rfl ?_
  refine P.aload_n 0 (pc' := 105) dX9_init_104 rfl rfl rfl ?_
  refine P.sipush (v := 400) (pc' := 108) dX9_init_105 rfl rfl ?_
  refine P.newarrE (t := 4) (atype := .boolean) (N := 400) (x := (400, .inl fun _ => 0)) (pc' := 110) q316 rfl (by decide) (fun _ _ h => h) rfl (fun _ => rfl) (by decide) (by decide) (Nat.le_of_ble_eq_true rfl) (iT_new (tw := tw) (j := 11) (sl := sl + 13688) (M := M) (ro := ro) (fs := fsT12 tw) (j' := 12) (sl' := sl + 14088) rfl (by omega) rfl) dX9_init_108 rfl ?_
  refine P.putF (v := .ref (tw + 12)) (pc' := 113) ci9 18 (by decide) (iT_put (fs := fsT12 tw) (fs' := fsT13 tw) (fsL13 tw) (fsS13 tw)) q1573 (Or.inl rfl) rfl rfl rfl rfl rfl dX9_init_110 rfl ?_
  refine P.aload_n 0 (pc' := 114) dX9_init_113 rfl rfl rfl ?_
  refine P.sipush (v := 400) (pc' := 117) dX9_init_114 rfl rfl ?_
  refine P.newarrE (t := 0) (atype := .int) (N := 400) (x := (400, .inl fun _ => 0)) (pc' := 119) q270 rfl (by decide) (fun _ _ h => h) rfl (fun _ => rfl) (by decide) (by decide) (Nat.le_of_ble_eq_true rfl) (iT_new (tw := tw) (j := 12) (sl := sl + 14088) (M := M) (ro := ro) (fs := fsT13 tw) (j' := 13) (sl' := sl + 14488) rfl (by omega) rfl) dX9_init_117 rfl ?_
  refine P.putF (v := .ref (tw + 13)) (pc' := 122) ci9 19 (by decide) (iT_put (fs := fsT13 tw) (fs' := fsT14 tw) (fsL14 tw) (fsS14 tw)) q1574 (Or.inl rfl) rfl rfl rfl rfl rfl dX9_init_119 rfl ?_
  refine P.aload_n 0 (pc' := 123) dX9_init_122 rfl rfl rfl ?_
  refine P.sipush (v := 400) (pc' := 126) dX9_init_123 rfl rfl ?_
  refine P.newarrE (t := 0) (atype := .int) (N := 400) (x := (400, .inl fun _ => 0)) (pc' := 128) q270 rfl (by decide) (fun _ _ h => h) rfl (fun _ => rfl) (by decide) (by decide) (Nat.le_of_ble_eq_true rfl) (iT_new (tw := tw) (j := 13) (sl := sl + 14488) (M := M) (ro := ro) (fs := fsT14 tw) (j' := 14) (sl' := sl + 14888) rfl (by omega) rfl) dX9_init_126 rfl ?_
  refine P.putF (v := .ref (tw + 14)) (pc' := 131) ci9 20 (by decide) (iT_put (fs := fsT14 tw) (fs' := fsT15 tw) (fsL15 tw) (fsS15 tw)) q1575 (Or.inl rfl) rfl rfl rfl rfl rfl dX9_init_128 rfl ?_
  refine P.aload_n 0 (pc' := 132) dX9_init_131 rfl rfl rfl ?_
  refine P.sipush (v := 400) (pc' := 135) dX9_init_132 rfl rfl ?_
  refine P.newarrE (t := 0) (atype := .int) (N := 400) (x := (400, .inl fun _ => 0)) (pc' := 137) q270 rfl (by decide) (fun _ _ h => h) rfl (fun _ => rfl) (by decide) (by decide) (Nat.le_of_ble_eq_true rfl) (iT_new (tw := tw) (j := 14) (sl := sl + 14888) (M := M) (ro := ro) (fs := fsT15 tw) (j' := 15) (sl' := sl + 15288) rfl (by omega) rfl) dX9_init_135 rfl ?_
  refine P.putF (v := .ref (tw + 15)) (pc' := 140) ci9 21 (by decide) (iT_put (fs := fsT15 tw) (fs' := fsT16 tw) (fsL16 tw) (fsS16 tw)) q1576 (Or.inl rfl) rfl rfl rfl rfl rfl dX9_init_137 rfl ?_
  refine P.aload_n 0 (pc' := 141) dX9_init_140 rfl rfl rfl ?_
  refine P.sipush (v := 400) (pc' := 144) dX9_init_141 rfl rfl ?_
  refine P.newarrE (t := 0) (atype := .int) (N := 400) (x := (400, .inl fun _ => 0)) (pc' := 146) q270 rfl (by decide) (fun _ _ h => h) rfl (fun _ => rfl) (by decide) (by decide) (Nat.le_of_ble_eq_true rfl) (iT_new (tw := tw) (j := 15) (sl := sl + 15288) (M := M) (ro := ro) (fs := fsT16 tw) (j' := 16) (sl' := sl + 15688) rfl (by omega) rfl) dX9_init_144 rfl ?_
  refine P.putF (v := .ref (tw + 16)) (pc' := 149) ci9 22 (by decide) (iT_put (fs := fsT16 tw) (fs' := fsT17 tw) (fsL17 tw) (fsS17 tw)) q1577 (Or.inl rfl) rfl rfl rfl rfl rfl dX9_init_146 rfl ?_
  refine P.aload_n 0 (pc' := 150) dX9_init_149 rfl rfl rfl ?_
  refine P.sipush (v := 400) (pc' := 153) dX9_init_150 rfl rfl ?_
  refine P.newarrE (t := 0) (atype := .int) (N := 400) (x := (400, .inl fun _ => 0)) (pc' := 155) q270 rfl (by decide) (fun _ _ h => h) rfl (fun _ => rfl) (by decide) (by decide) (Nat.le_of_ble_eq_true rfl) (iT_new (tw := tw) (j := 16) (sl := sl + 15688) (M := M) (ro := ro) (fs := fsT17 tw) (j' := 17) (sl' := sl + 16088) rfl (by omega) rfl) dX9_init_153 rfl ?_
  refine P.putF (v := .ref (tw + 17)) (pc' := 158) ci9 23 (by decide) (iT_put (fs := fsT17 tw) (fs' := fsT18 tw) (fsL18 tw) (fsS18 tw)) q1578 (Or.inl rfl) rfl rfl rfl rfl rfl dX9_init_155 rfl ?_
  refine P.aload_n 0 (pc' := 159) dX9_init_158 rfl rfl rfl ?_
  refine P.iconst (v := 3) (pc' := 160) dX9_init_159 rfl rfl ?_
  refine P.newarrE (t := 4) (atype := .boolean) (N := 3) (x := (3, .inl fun _ => 0)) (pc' := 162) q316 rfl (by decide) (fun _ _ h => h) rfl (fun _ => rfl) (by decide) (by decide) (Nat.le_of_ble_eq_true rfl) (iT_new (tw := tw) (j := 17) (sl := sl + 16088) (M := M) (ro := ro) (fs := fsT18 tw) (j' := 18) (sl' := sl + 16091) rfl (by omega) rfl) dX9_init_160 rfl ?_
  refine P.putF (v := .ref (tw + 18)) (pc' := 165) ci9 24 (by decide) (iT_put (fs := fsT18 tw) (fs' := fsT19 tw) (fsL19 tw) (fsS19 tw)) q1579 (Or.inl rfl) rfl rfl rfl rfl rfl dX9_init_162 rfl ?_
  refine P.aload_n 0 (pc' := 166) dX9_init_165 rfl rfl rfl ?_
  refine P.bipush (v := 30) (pc' := 168) dX9_init_166 rfl rfl ?_
  refine P.newarrE (t := 1) (atype := .long) (N := 30) (x := (30, .inr (.inl fun _ => 0))) (pc' := 170) q235 rfl (by decide) (fun _ _ h => h) rfl (fun _ => rfl) (by decide) (by decide) (Nat.le_of_ble_eq_true rfl) (iT_new (tw := tw) (j := 18) (sl := sl + 16091) (M := M) (ro := ro) (fs := fsT19 tw) (j' := 19) (sl' := sl + 16121) rfl (by omega) rfl) dX9_init_168 rfl ?_
  refine P.putF (v := .ref (tw + 19)) (pc' := 173) ci9 26 (by decide) (iT_put (fs := fsT19 tw) (fs' := fsT20 tw) (fsL20 tw) (fsS20 tw)) q1581 (Or.inl rfl) rfl rfl rfl rfl rfl dX9_init_170 rfl ?_
  refine P.aload_n 0 (pc' := 174) dX9_init_173 rfl rfl rfl ?_
  refine P.bipush (v := 30) (pc' := 176) dX9_init_174 rfl rfl ?_
  refine P.newarrE (t := 0) (atype := .int) (N := 30) (x := (30, .inl fun _ => 0)) (pc' := 178) q270 rfl (by decide) (fun _ _ h => h) rfl (fun _ => rfl) (by decide) (by decide) (Nat.le_of_ble_eq_true rfl) (iT_new (tw := tw) (j := 19) (sl := sl + 16121) (M := M) (ro := ro) (fs := fsT20 tw) (j' := 20) (sl' := sl + 16151) rfl (by omega) rfl) dX9_init_176 rfl ?_
  refine P.putF (v := .ref (tw + 20)) (pc' := 181) ci9 27 (by decide) (iT_put (fs := fsT20 tw) (fs' := fsT21 tw) (fsL21 tw) (fsS21 tw)) q1582 (Or.inl rfl) rfl rfl rfl rfl rfl dX9_init_178 rfl ?_
  refine P.aload_n 0 (pc' := 182) dX9_init_181 rfl rfl rfl ?_
  refine P.bipush (v := 30) (pc' := 184) dX9_init_182 rfl rfl ?_
  refine P.newarrE (t := 0) (atype := .int) (N := 30) (x := (30, .inl fun _ => 0)) (pc' := 186) q270 rfl (by decide) (fun _ _ h => h) rfl (fun _ => rfl) (by decide) (by decide) (Nat.le_of_ble_eq_true rfl) (iT_new (tw := tw) (j := 20) (sl := sl + 16151) (M := M) (ro := ro) (fs := fsT21 tw) (j' := 21) (sl' := sl + 16181) rfl (by omega) rfl) dX9_init_184 rfl ?_
  refine P.putF (v := .ref (tw + 21)) (pc' := 189) ci9 28 (by decide) (iT_put (fs := fsT21 tw) (fs' := fsT22 tw) (fsL22 tw) (fsS22 tw)) q1583 (Or.inl rfl) rfl rfl rfl rfl rfl dX9_init_186 rfl ?_
  refine P.aload_n 0 (pc' := 190) dX9_init_189 rfl rfl rfl ?_
  refine P.sipush (v := 500) (pc' := 193) dX9_init_190 rfl rfl ?_
  refine P.newarrE (t := 0) (atype := .int) (N := 500) (x := (500, .inl fun _ => 0)) (pc' := 195) q270 rfl (by decide) (fun _ _ h => h) rfl (fun _ => rfl) (by decide) (by decide) (Nat.le_of_ble_eq_true rfl) (iT_new (tw := tw) (j := 21) (sl := sl + 16181) (M := M) (ro := ro) (fs := fsT22 tw) (j' := 22) (sl' := sl + 16681) rfl (by omega) rfl) dX9_init_193 rfl ?_
  refine P.putF (v := .ref (tw + 22)) (pc' := 198) ci9 31 (by decide) (iT_put (fs := fsT22 tw) (fs' := fsT23 tw) (fsL23 tw) (fsS23 tw)) q1586 (Or.inl rfl) rfl rfl rfl rfl rfl dX9_init_195 rfl ?_
  refine P.aload_n 0 (pc' := 199) dX9_init_198 rfl rfl rfl ?_
  refine P.bipush (v := 9) (pc' := 201) dX9_init_199 rfl rfl ?_
  refine P.newarrE (t := 0) (atype := .int) (N := 9) (x := (9, .inl fun _ => 0)) (pc' := 203) q270 rfl (by decide) (fun _ _ h => h) rfl (fun _ => rfl) (by decide) (by decide) (Nat.le_of_ble_eq_true rfl) (iT_new (tw := tw) (j := 22) (sl := sl + 16681) (M := M) (ro := ro) (fs := fsT23 tw) (j' := 23) (sl' := sl + 16690) rfl (by omega) rfl) dX9_init_201 rfl ?_
  refine P.putF (v := .ref (tw + 23)) (pc' := 206) ci9 34 (by decide) (iT_put (fs := fsT23 tw) (fs' := fsT24 tw) (fsL24 tw) (fsS24 tw)) q1589 (Or.inl rfl) rfl rfl rfl rfl rfl dX9_init_203 rfl ?_
  refine P.aload_n 0 (pc' := 207) dX9_init_206 rfl rfl rfl ?_
  refine P.sipush (v := 500) (pc' := 210) dX9_init_207 rfl rfl ?_
  refine P.newarrE (t := 0) (atype := .int) (N := 500) (x := (500, .inl fun _ => 0)) (pc' := 212) q270 rfl (by decide) (fun _ _ h => h) rfl (fun _ => rfl) (by decide) (by decide) (Nat.le_of_ble_eq_true rfl) (iT_new (tw := tw) (j := 23) (sl := sl + 16690) (M := M) (ro := ro) (fs := fsT24 tw) (j' := 24) (sl' := sl + 17190) rfl (by omega) rfl) dX9_init_210 rfl ?_
  refine P.putF (v := .ref (tw + 24)) (pc' := 215) ci9 36 (by decide) (iT_put (fs := fsT24 tw) (fs' := fsT25 tw) (fsL25 tw) (fsS25 tw)) q1591 (Or.inl rfl) rfl rfl rfl rfl rfl dX9_init_212 rfl ?_
  refine P.aload_n 0 (pc' := 216) dX9_init_215 rfl rfl rfl ?_
  refine P.sipush (v := 900) (pc' := 219) dX9_init_216 rfl rfl ?_
  refine P.newarrE (t := 0) (atype := .int) (N := 900) (x := (900, .inl fun _ => 0)) (pc' := 221) q270 rfl (by decide) (fun _ _ h => h) rfl (fun _ => rfl) (by decide) (by decide) (Nat.le_of_ble_eq_true rfl) (iT_new (tw := tw) (j := 24) (sl := sl + 17190) (M := M) (ro := ro) (fs := fsT25 tw) (j' := 25) (sl' := sl + 18090) rfl (by omega) rfl) dX9_init_219 rfl ?_
  refine P.putF (v := .ref (tw + 25)) (pc' := 224) ci9 37 (by decide) (iT_put (fs := fsT25 tw) (fs' := fsT26 tw) (fsL26 tw) (fsS26 tw)) q1592 (Or.inl rfl) rfl rfl rfl rfl rfl dX9_init_221 rfl ?_
  refine P.aload_n 0 (pc' := 225) dX9_init_224 rfl rfl rfl ?_
  refine P.bipush (v := 8) (pc' := 227) dX9_init_225 rfl rfl ?_
  refine P.newarrE (t := 0) (atype := .int) (N := 8) (x := (8, .inl fun _ => 0)) (pc' := 229) q270 rfl (by decide) (fun _ _ h => h) rfl (fun _ => rfl) (by decide) (by decide) (Nat.le_of_ble_eq_true rfl) (iT_new (tw := tw) (j := 25) (sl := sl + 18090) (M := M) (ro := ro) (fs := fsT26 tw) (j' := 26) (sl' := sl + 18098) rfl (by omega) rfl) dX9_init_227 rfl ?_
  refine P.putF (v := .ref (tw + 26)) (pc' := 232) ci9 38 (by decide) (iT_put (fs := fsT26 tw) (fs' := fsT27 tw) (fsL27 tw) (fsS27 tw)) q1593 (Or.inl rfl) rfl rfl rfl rfl rfl dX9_init_229 rfl ?_
  refine P.aload_n 0 (pc' := 233) dX9_init_232 rfl rfl rfl ?_
  refine P.sipush (v := 504) (pc' := 236) dX9_init_233 rfl rfl ?_
  refine P.newarrE (t := 0) (atype := .int) (N := 504) (x := (504, .inl fun _ => 0)) (pc' := 238) q270 rfl (by decide) (fun _ _ h => h) rfl (fun _ => rfl) (by decide) (by decide) (Nat.le_of_ble_eq_true rfl) (iT_new (tw := tw) (j := 26) (sl := sl + 18098) (M := M) (ro := ro) (fs := fsT27 tw) (j' := 27) (sl' := sl + 18602) rfl (by omega) rfl) dX9_init_236 rfl ?_
  refine P.putF (v := .ref (tw + 27)) (pc' := 241) ci9 39 (by decide) (iT_put (fs := fsT27 tw) (fs' := fsT28 tw) (fsL28 tw) (fsS28 tw)) q1594 (Or.inl rfl) rfl rfl rfl rfl rfl dX9_init_238 rfl ?_
  refine P.aload_n 0 (pc' := 242) dX9_init_241 rfl rfl rfl ?_
  refine P.bipush (v := 16) (pc' := 244) dX9_init_242 rfl rfl ?_
  refine P.newarrE (t := 0) (atype := .int) (N := 16) (x := (16, .inl fun _ => 0)) (pc' := 246) q270 rfl (by decide) (fun _ _ h => h) rfl (fun _ => rfl) (by decide) (by decide) (Nat.le_of_ble_eq_true rfl) (iT_new (tw := tw) (j := 27) (sl := sl + 18602) (M := M) (ro := ro) (fs := fsT28 tw) (j' := 28) (sl' := sl + 18618) rfl (by omega) rfl) dX9_init_244 rfl ?_
  refine P.putF (v := .ref (tw + 28)) (pc' := 249) ci9 43 (by decide) (iT_put (fs := fsT28 tw) (fs' := fsT29 tw) (fsL29 tw) (fsS29 tw)) q1598 (Or.inl rfl) rfl rfl rfl rfl rfl dX9_init_246 rfl ?_
  refine P.aload_n 0 (pc' := 250) dX9_init_249 rfl rfl rfl ?_
  refine P.bipush (v := 16) (pc' := 252) dX9_init_250 rfl rfl ?_
  refine P.newarrE (t := 0) (atype := .int) (N := 16) (x := (16, .inl fun _ => 0)) (pc' := 254) q270 rfl (by decide) (fun _ _ h => h) rfl (fun _ => rfl) (by decide) (by decide) (Nat.le_of_ble_eq_true rfl) (iT_new (tw := tw) (j := 28) (sl := sl + 18618) (M := M) (ro := ro) (fs := fsT29 tw) (j' := 29) (sl' := sl + 18634) rfl (by omega) rfl) dX9_init_252 rfl ?_
  refine P.putF (v := .ref (tw + 29)) (pc' := 257) ci9 44 (by decide) (iT_put (fs := fsT29 tw) (fs' := fsT30 tw) (fsL30 tw) (fsS30 tw)) q1599 (Or.inl rfl) rfl rfl rfl rfl rfl dX9_init_254 rfl ?_
  refine P.aload_n 0 (pc' := 258) dX9_init_257 rfl rfl rfl ?_
  refine P.sipush (v := 256) (pc' := 261) dX9_init_258 rfl rfl ?_
  refine P.newarrE (t := 4) (atype := .boolean) (N := 256) (x := (256, .inl fun _ => 0)) (pc' := 263) q316 rfl (by decide) (fun _ _ h => h) rfl (fun _ => rfl) (by decide) (by decide) (Nat.le_of_ble_eq_true rfl) (iT_new (tw := tw) (j := 29) (sl := sl + 18634) (M := M) (ro := ro) (fs := fsT30 tw) (j' := 30) (sl' := sl + 18890) rfl (by omega) rfl) dX9_init_261 rfl ?_
  refine P.putF (v := .ref (tw + 30)) (pc' := 266) ci9 45 (by decide) (iT_put (fs := fsT30 tw) (fs' := fsT31 tw) (fsL31 tw) (fsS31 tw)) q1600 (Or.inl rfl) rfl rfl rfl rfl rfl dX9_init_263 rfl ?_
  refine P.aload_n 0 (pc' := 267) dX9_init_266 rfl rfl rfl ?_
  refine P.sipush (v := 256) (pc' := 270) dX9_init_267 rfl rfl ?_
  refine P.newarrE (t := 0) (atype := .int) (N := 256) (x := (256, .inl fun _ => 0)) (pc' := 272) q270 rfl (by decide) (fun _ _ h => h) rfl (fun _ => rfl) (by decide) (by decide) (Nat.le_of_ble_eq_true rfl) (iT_new (tw := tw) (j := 30) (sl := sl + 18890) (M := M) (ro := ro) (fs := fsT31 tw) (j' := 31) (sl' := sl + 19146) rfl (by omega) rfl) dX9_init_270 rfl ?_
  refine P.putF (v := .ref (tw + 31)) (pc' := 275) ci9 46 (by decide) (iT_put (fs := fsT31 tw) (fs' := fsT32 tw) (fsL32 tw) (fsS32 tw)) q1601 (Or.inl rfl) rfl rfl rfl rfl rfl dX9_init_272 rfl ?_
  refine P.aload_n 0 (pc' := 276) dX9_init_275 rfl rfl rfl ?_
  refine P.bipush (v := 16) (pc' := 278) dX9_init_276 rfl rfl ?_
  refine P.newarrE (t := 0) (atype := .int) (N := 16) (x := (16, .inl fun _ => 0)) (pc' := 280) q270 rfl (by decide) (fun _ _ h => h) rfl (fun _ => rfl) (by decide) (by decide) (Nat.le_of_ble_eq_true rfl) (iT_new (tw := tw) (j := 31) (sl := sl + 19146) (M := M) (ro := ro) (fs := fsT32 tw) (j' := 32) (sl' := sl + 19162) rfl (by omega) rfl) dX9_init_278 rfl ?_
  refine P.putF (v := .ref (tw + 32)) (pc' := 283) ci9 47 (by decide) (iT_put (fs := fsT32 tw) (fs' := fsT33 tw) (fsL33 tw) (fsS33 tw)) q1602 (Or.inl rfl) rfl rfl rfl rfl rfl dX9_init_280 rfl ?_
  refine P.aload_n 0 (pc' := 284) dX9_init_283 rfl rfl rfl ?_
  refine P.bipush (v := 12) (pc' := 286) dX9_init_284 rfl rfl ?_
  refine P.newarrE (t := 0) (atype := .int) (N := 12) (x := (12, .inl fun _ => 0)) (pc' := 288) q270 rfl (by decide) (fun _ _ h => h) rfl (fun _ => rfl) (by decide) (by decide) (Nat.le_of_ble_eq_true rfl) (iT_new (tw := tw) (j := 32) (sl := sl + 19162) (M := M) (ro := ro) (fs := fsT33 tw) (j' := 33) (sl' := sl + 19174) rfl (by omega) rfl) dX9_init_286 rfl ?_
  refine P.putF (v := .ref (tw + 33)) (pc' := 291) ci9 51 (by decide) (iT_put (fs := fsT33 tw) (fs' := fsT34 tw) (fsL34 tw) (fsS34 tw)) q1606 (Or.inl rfl) rfl rfl rfl rfl rfl dX9_init_288 rfl ?_
  refine P.aload_n 0 (pc' := 292) dX9_init_291 rfl rfl rfl ?_
  refine P.sipush (v := 1300) (pc' := 295) dX9_init_292 rfl rfl ?_
  refine P.newarrE (t := 0) (atype := .int) (N := 1300) (x := (1300, .inl fun _ => 0)) (pc' := 297) q270 rfl (by decide) (fun _ _ h => h) rfl (fun _ => rfl) (by decide) (by decide) (Nat.le_of_ble_eq_true rfl) (iT_new (tw := tw) (j := 33) (sl := sl + 19174) (M := M) (ro := ro) (fs := fsT34 tw) (j' := 34) (sl' := sl + 20474) rfl (by omega) rfl) dX9_init_295 rfl ?_
  refine P.putF (v := .ref (tw + 34)) (pc' := 300) ci9 52 (by decide) (iT_put (fs := fsT34 tw) (fs' := fsT35 tw) (fsL35 tw) (fsS35 tw)) q1607 (Or.inl rfl) rfl rfl rfl rfl rfl dX9_init_297 rfl ?_
  refine P.aload_n 0 (pc' := 301) dX9_init_300 rfl rfl rfl ?_
  refine P.iconst (v := 0) (pc' := 302) dX9_init_301 rfl rfl ?_
  have e9 : iT tw 34 (fsT35 tw) M (sl + 20474) ro = mT tw τ0 (M, tw + 35, sl + 20474, ro) := iT_end (fsE tw)
  rw [e9]
  refine P.callV (pc' := 305) (As := [.int 0]) 1 (ok_X9_begin F 0 tw (M, tw + 35, sl + 20474, ro) τ0 h1) (Nat.le_of_ble_eq_true rfl) (lw_V q1539 q1541 qs73 q172 q1542) rfl yok_X9_begin rfl (Nat.le_of_ble_eq_true rfl) ci9 T_oc (by decide) rfl dX9_init_302 rfl ?_
  refine P.aload_n 0 (pc' := 306) dX9_init_305 rfl rfl rfl ?_
  refine P.callV (pc' := 309) (As := []) 0 (ok_X9_settle F tw (M, tw + 35, sl + 20474, ro) τ1 h2) (Nat.le_of_ble_eq_true rfl) (lw_V q1543 q1545 qs74 q172 q1546) rfl yok_X9_settle rfl (Nat.le_of_ble_eq_true rfl) ci9 T_oc (by decide) rfl dX9_init_306 rfl ?_
  exact P.vret rfl dX9_init_309
