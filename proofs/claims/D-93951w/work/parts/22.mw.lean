/-! THE REFERENCE'S OBJECT AS A WORLD: P: all its ints by rows (0 rise, 1 rail, 2 chair, 3 wet, 4 kind, 5 by, 6 asked, 7 steps ways climbed came weeksGone seed, 8 shelf, 9 rowSort, 10 rowSize, 11 shown, 12 tape, 13 refused, 14 place, 15 tapeSize at token from figures fault told statements armsLeft, 20.. bestWay, 30.. bestSlips, 40.. bestTires); L: rows 0..7, moved 8 -/
def up (P : Nat → Nat → Int32) (f i : Nat) (v : Int32) : Nat → Nat → Int32 := fun a => if a = f then upd (P a) i v else P a
def upL (L : Nat → Nat → Int64) (f i : Nat) (v : Int64) : Nat → Nat → Int64 := fun a => if a = f then vp_updL (L a) i v else L a
theorem up_o {P : Nat → Nat → Int32} {f i g : Nat} {v : Int32} (h : g ≠ f) : up P f i v g = P g := if_neg h
theorem up_s {P : Nat → Nat → Int32} {f i : Nat} {v : Int32} : up P f i v f = upd (P f) i v := if_pos rfl
theorem up_ss {P : Nat → Nat → Int32} {f i : Nat} {v : Int32} : up P f i v f i = v := by rw [up_s]; exact if_pos rfl
theorem up_sn {P : Nat → Nat → Int32} {f i j : Nat} {v : Int32} (h : j ≠ i) : up P f i v f j = P f j := by rw [up_s]; exact if_neg h
theorem upL_o {L : Nat → Nat → Int64} {f i g : Nat} {v : Int64} (h : g ≠ f) : upL L f i v g = L g := if_neg h
theorem upL_s {L : Nat → Nat → Int64} {f i : Nat} {v : Int64} : upL L f i v f = vp_updL (L f) i v := if_pos rfl
def MOf (am : Nat → Nat) (P : Nat → Nat → Int32) (G : Nat → Int32) (kt tr : Option Nat) : List Value := [.ref (am 1), .ref (am 2), .ref (am 3), .ref (am 4), .ref (am 5), .ref (am 6), .ref (am 7), .int (G 0), .ref (am 8), .int (P 7 0), .ref (am 9), .ref (am 10), .ref (am 11), .ref (am 12), .int (P 7 1), .ref (am 13), .ref (am 14), .ref (am 15), .int (P 7 2), .int (P 7 3), .int (P 7 4), .int (P 7 5), va_rf kt, va_rf tr, .int (G 1), .int (G 2), .int (G 3), .int (G 4), .int (G 5), .int (G 6), .int (G 7), .int (G 8), .ref (am 16), .ref (am 17), .ref (am 18), .ref (am 19)]
def MOl (dA : Nat → ClassId) (am : Nat → Nat) (P : Nat → Nat → Int32) (G : Nat → Int32) (L : Nat → Nat → Int64) (kt tr : Option Nat) : List va_E := [.inr (5, MOf am P G kt tr), .inl (dA 0, 8, .inl (P 8)), .inl (dA 0, 8, .inl (P 9)), .inl (dA 0, 8, .inl (P 10)), .inl (dA 10, 8, .inr (.inr (.inr (.inr (fun i => some (am (20 + i))))))), .inl (dA 3, 40, .inr (.inl (L 8))), .inl (dA 0, 8, .inl (P 11)), .inl (dA 0, 250, .inl (P 12)), .inl (dA 0, 8, .inl (P 13)), .inl (dA 0, 9, .inl (P 0)), .inl (dA 4, 9, .inl (P 1)), .inl (dA 4, 9, .inl (P 2)), .inl (dA 4, 9, .inl (P 3)), .inl (dA 0, 6, .inl (P 4)), .inl (dA 0, 6, .inl (P 5)), .inl (dA 0, 10, .inl (P 6)), .inl (dA 9, 10, .inr (.inr (.inr (.inr (fun i => some (am (30 + i))))))), .inl (dA 9, 10, .inr (.inr (.inr (.inr (fun i => some (am (40 + i))))))), .inl (dA 9, 10, .inr (.inr (.inr (.inr (fun i => some (am (50 + i))))))), .inl (dA 0, 3, .inl (P 14))]
def MOt (dA : Nat → ClassId) (am : Nat → Nat) (T : Nat → Nat → Int32) (L : Nat → Nat → Int64) : fw := fun k =>
  if k < 20 then none else if k < 28 then some (am k, .inl (dA 3, 40, .inr (.inl (L (k - 20))))) else if k < 30 then none else if k < 60 then some (am k, .inl (dA 0, 201, .inl (T (k - 30)))) else none
def MOg (l : List va_E) (am : Nat → Nat) (r : fw) : fw := fun k => if k < 20 then (l[k]?).map (fun e => (am k, e)) else r k
def MO (dA : Nat → ClassId) (am : Nat → Nat) (P T : Nat → Nat → Int32) (G : Nat → Int32) (L : Nat → Nat → Int64) (kt tr : Option Nat) : fw := MOg (MOl dA am P G L kt tr) am (MOt dA am T L)
theorem MO_lt {dA : Nat → ClassId} {am : Nat → Nat} {P T : Nat → Nat → Int32} {G : Nat → Int32} {L : Nat → Nat → Int64} {kt tr : Option Nat} {k : Nat} {q : Nat × va_E} (h : MO dA am P T G L kt tr k = some q) : k < 60 := by
  rcases Nat.lt_or_ge k 60 with h1 | h1
  · exact h1
  · exfalso
    have e : MO dA am P T G L kt tr k = none := by
      show (if k < 20 then _ else MOt dA am T L k) = none
      rw [if_neg (by omega)]
      show (if k < 20 then none else if k < 28 then _ else if k < 30 then none else if k < 60 then _ else none) = none
      rw [if_neg (by omega), if_neg (by omega), if_neg (by omega), if_neg (by omega)]
    rw [e] at h
    cases h
section MOS
variable {dA : Nat → ClassId} {am : Nat → Nat} {P T : Nat → Nat → Int32} {G : Nat → Int32} {L : Nat → Nat → Int64} {kt tr : Option Nat}
theorem MO_row {i : Nat} (h : i < 8) : MO dA am P T G L kt tr (20 + i) = some (am (20 + i), .inl (dA 3, 40, .inr (.inl (L i)))) := by
  show (if 20 + i < 20 then _ else MOt dA am T L (20 + i)) = _
  rw [if_neg (by omega)]
  show (if 20 + i < 20 then none else if 20 + i < 28 then _ else _) = _
  rw [if_neg (by omega), if_pos (by omega), show 20 + i - 20 = i by omega]
theorem MO_tab {j : Nat} (h1 : 30 ≤ j) (h : j < 60) : MO dA am P T G L kt tr j = some (am j, .inl (dA 0, 201, .inl (T (j - 30)))) := by
  show (if j < 20 then _ else MOt dA am T L j) = _
  rw [if_neg (by omega)]
  show (if j < 20 then none else if j < 28 then _ else if j < 30 then none else if j < 60 then _ else none) = _
  rw [if_neg (by omega), if_neg (by omega), if_neg (by omega), if_pos h]
theorem MO_tab0 {i : Nat} (h : i < 10) : MO dA am P T G L kt tr (30 + i) = some (am (30 + i), .inl (dA 0, 201, .inl (T (i)))) := by rw [MO_tab (by omega) (by omega), show 30 + i - 30 = i by omega]
theorem MO_tab1 {i : Nat} (h : i < 10) : MO dA am P T G L kt tr (40 + i) = some (am (40 + i), .inl (dA 0, 201, .inl (T (10 + i)))) := by rw [MO_tab (by omega) (by omega), show 40 + i - 30 = 10 + i by omega]
theorem MO_tab2 {i : Nat} (h : i < 10) : MO dA am P T G L kt tr (50 + i) = some (am (50 + i), .inl (dA 0, 201, .inl (T (20 + i)))) := by rw [MO_tab (by omega) (by omega), show 50 + i - 30 = 20 + i by omega]
theorem MOg_set {l l' : List va_E} {r : fw} {t : Nat} {e : va_E} (ht : t < 20) (hl : t < l.length) (h : l.set t e = l') : fup (MOg l am r) t (am t, e) = MOg l' am r := by
  subst h
  funext k
  by_cases hk : k = t
  · subst hk
    rw [fup_s]
    show some (am k, e) = (if k < 20 then ((l.set k e)[k]?).map (fun e => (am k, e)) else r k)
    rw [if_pos ht, List.getElem?_set_self hl]
    rfl
  · rw [fup_n hk]
    show (if k < 20 then (l[k]?).map (fun e => (am k, e)) else r k) = (if k < 20 then ((l.set t e)[k]?).map (fun e => (am k, e)) else r k)
    rw [List.getElem?_set_ne (Ne.symm hk)]
theorem MOt_upL {i : Nat} {v : Int64} : MOt dA am T (upL L 8 i v) = MOt dA am T L := by
  funext k
  show (if k < 20 then none else if k < 28 then some (am k, Sum.inl (dA 3, 40, Sum.inr (Sum.inl (upL L 8 i v (k - 20))))) else _) = (if k < 20 then none else if k < 28 then some (am k, Sum.inl (dA 3, 40, Sum.inr (Sum.inl (L (k - 20))))) else _)
  by_cases h1 : k < 28
  · rw [upL_o (L := L) (f := 8) (g := k - 20) (by omega)]
  · rw [if_neg h1, if_neg h1]
theorem MO_t {k : Nat} (h : 20 ≤ k) : MO dA am P T G L kt tr k = MOt dA am T L k := if_neg (by omega)
theorem MO_0 : MO dA am P T G L kt tr 0 = some (am 0, .inr (5, MOf am P G kt tr)) := rfl
theorem MO_1 : MO dA am P T G L kt tr 1 = some (am 1, .inl (dA 0, 8, .inl (P 8))) := rfl
theorem MO_2 : MO dA am P T G L kt tr 2 = some (am 2, .inl (dA 0, 8, .inl (P 9))) := rfl
theorem MO_3 : MO dA am P T G L kt tr 3 = some (am 3, .inl (dA 0, 8, .inl (P 10))) := rfl
theorem MO_4 : MO dA am P T G L kt tr 4 = some (am 4, .inl (dA 10, 8, .inr (.inr (.inr (.inr (fun i => some (am (20 + i)))))))) := rfl
theorem MO_5 : MO dA am P T G L kt tr 5 = some (am 5, .inl (dA 3, 40, .inr (.inl (L 8)))) := rfl
theorem MO_6 : MO dA am P T G L kt tr 6 = some (am 6, .inl (dA 0, 8, .inl (P 11))) := rfl
theorem MO_7 : MO dA am P T G L kt tr 7 = some (am 7, .inl (dA 0, 250, .inl (P 12))) := rfl
theorem MO_8 : MO dA am P T G L kt tr 8 = some (am 8, .inl (dA 0, 8, .inl (P 13))) := rfl
theorem MO_9 : MO dA am P T G L kt tr 9 = some (am 9, .inl (dA 0, 9, .inl (P 0))) := rfl
theorem MO_10 : MO dA am P T G L kt tr 10 = some (am 10, .inl (dA 4, 9, .inl (P 1))) := rfl
theorem MO_11 : MO dA am P T G L kt tr 11 = some (am 11, .inl (dA 4, 9, .inl (P 2))) := rfl
theorem MO_12 : MO dA am P T G L kt tr 12 = some (am 12, .inl (dA 4, 9, .inl (P 3))) := rfl
theorem MO_13 : MO dA am P T G L kt tr 13 = some (am 13, .inl (dA 0, 6, .inl (P 4))) := rfl
theorem MO_14 : MO dA am P T G L kt tr 14 = some (am 14, .inl (dA 0, 6, .inl (P 5))) := rfl
theorem MO_15 : MO dA am P T G L kt tr 15 = some (am 15, .inl (dA 0, 10, .inl (P 6))) := rfl
theorem MO_16 : MO dA am P T G L kt tr 16 = some (am 16, .inl (dA 9, 10, .inr (.inr (.inr (.inr (fun i => some (am (30 + i)))))))) := rfl
theorem MO_17 : MO dA am P T G L kt tr 17 = some (am 17, .inl (dA 9, 10, .inr (.inr (.inr (.inr (fun i => some (am (40 + i)))))))) := rfl
theorem MO_18 : MO dA am P T G L kt tr 18 = some (am 18, .inl (dA 9, 10, .inr (.inr (.inr (.inr (fun i => some (am (50 + i)))))))) := rfl
theorem MO_19 : MO dA am P T G L kt tr 19 = some (am 19, .inl (dA 0, 3, .inl (P 14))) := rfl
theorem MO_a1 {i : Nat} {v : Int32} : fup (MO dA am P T G L kt tr) 1 (am 1, .inl (dA 0, 8, .inl (upd (P 8) i v))) = MO dA am (up P 8 i v) T G L kt tr := by
  unfold MO
  exact MOg_set (by decide) (Nat.le_of_ble_eq_true rfl) rfl
theorem MO_a2 {i : Nat} {v : Int32} : fup (MO dA am P T G L kt tr) 2 (am 2, .inl (dA 0, 8, .inl (upd (P 9) i v))) = MO dA am (up P 9 i v) T G L kt tr := by
  unfold MO
  exact MOg_set (by decide) (Nat.le_of_ble_eq_true rfl) rfl
theorem MO_a3 {i : Nat} {v : Int32} : fup (MO dA am P T G L kt tr) 3 (am 3, .inl (dA 0, 8, .inl (upd (P 10) i v))) = MO dA am (up P 10 i v) T G L kt tr := by
  unfold MO
  exact MOg_set (by decide) (Nat.le_of_ble_eq_true rfl) rfl
theorem MO_a6 {i : Nat} {v : Int32} : fup (MO dA am P T G L kt tr) 6 (am 6, .inl (dA 0, 8, .inl (upd (P 11) i v))) = MO dA am (up P 11 i v) T G L kt tr := by
  unfold MO
  exact MOg_set (by decide) (Nat.le_of_ble_eq_true rfl) rfl
theorem MO_a7 {i : Nat} {v : Int32} : fup (MO dA am P T G L kt tr) 7 (am 7, .inl (dA 0, 250, .inl (upd (P 12) i v))) = MO dA am (up P 12 i v) T G L kt tr := by
  unfold MO
  exact MOg_set (by decide) (Nat.le_of_ble_eq_true rfl) rfl
theorem MO_a8 {i : Nat} {v : Int32} : fup (MO dA am P T G L kt tr) 8 (am 8, .inl (dA 0, 8, .inl (upd (P 13) i v))) = MO dA am (up P 13 i v) T G L kt tr := by
  unfold MO
  exact MOg_set (by decide) (Nat.le_of_ble_eq_true rfl) rfl
theorem MO_a9 {i : Nat} {v : Int32} : fup (MO dA am P T G L kt tr) 9 (am 9, .inl (dA 0, 9, .inl (upd (P 0) i v))) = MO dA am (up P 0 i v) T G L kt tr := by
  unfold MO
  exact MOg_set (by decide) (Nat.le_of_ble_eq_true rfl) rfl
theorem MO_a10 {i : Nat} {v : Int32} : fup (MO dA am P T G L kt tr) 10 (am 10, .inl (dA 4, 9, .inl (upd (P 1) i v))) = MO dA am (up P 1 i v) T G L kt tr := by
  unfold MO
  exact MOg_set (by decide) (Nat.le_of_ble_eq_true rfl) rfl
theorem MO_a11 {i : Nat} {v : Int32} : fup (MO dA am P T G L kt tr) 11 (am 11, .inl (dA 4, 9, .inl (upd (P 2) i v))) = MO dA am (up P 2 i v) T G L kt tr := by
  unfold MO
  exact MOg_set (by decide) (Nat.le_of_ble_eq_true rfl) rfl
theorem MO_a12 {i : Nat} {v : Int32} : fup (MO dA am P T G L kt tr) 12 (am 12, .inl (dA 4, 9, .inl (upd (P 3) i v))) = MO dA am (up P 3 i v) T G L kt tr := by
  unfold MO
  exact MOg_set (by decide) (Nat.le_of_ble_eq_true rfl) rfl
theorem MO_a13 {i : Nat} {v : Int32} : fup (MO dA am P T G L kt tr) 13 (am 13, .inl (dA 0, 6, .inl (upd (P 4) i v))) = MO dA am (up P 4 i v) T G L kt tr := by
  unfold MO
  exact MOg_set (by decide) (Nat.le_of_ble_eq_true rfl) rfl
theorem MO_a14 {i : Nat} {v : Int32} : fup (MO dA am P T G L kt tr) 14 (am 14, .inl (dA 0, 6, .inl (upd (P 5) i v))) = MO dA am (up P 5 i v) T G L kt tr := by
  unfold MO
  exact MOg_set (by decide) (Nat.le_of_ble_eq_true rfl) rfl
theorem MO_a15 {i : Nat} {v : Int32} : fup (MO dA am P T G L kt tr) 15 (am 15, .inl (dA 0, 10, .inl (upd (P 6) i v))) = MO dA am (up P 6 i v) T G L kt tr := by
  unfold MO
  exact MOg_set (by decide) (Nat.le_of_ble_eq_true rfl) rfl
theorem MO_a19 {i : Nat} {v : Int32} : fup (MO dA am P T G L kt tr) 19 (am 19, .inl (dA 0, 3, .inl (upd (P 14) i v))) = MO dA am (up P 14 i v) T G L kt tr := by
  unfold MO
  exact MOg_set (by decide) (Nat.le_of_ble_eq_true rfl) rfl
theorem MO_a5 {i : Nat} {v : Int64} : fup (MO dA am P T G L kt tr) 5 (am 5, .inl (dA 3, 40, .inr (.inl (vp_updL (L 8) i v)))) = MO dA am P T G (upL L 8 i v) kt tr := by
  unfold MO
  rw [MOt_upL]
  exact MOg_set (by decide) (Nat.le_of_ble_eq_true rfl) rfl
theorem MO_f9 {v : Int32} : fup (MO dA am P T G L kt tr) 0 (am 0, .inr (5, (MOf am P G kt tr).set 9 (.int v))) = MO dA am (up P 7 0 v) T G L kt tr := by
  unfold MO
  exact MOg_set (by decide) (Nat.le_of_ble_eq_true rfl) rfl
theorem MO_f14 {v : Int32} : fup (MO dA am P T G L kt tr) 0 (am 0, .inr (5, (MOf am P G kt tr).set 14 (.int v))) = MO dA am (up P 7 1 v) T G L kt tr := by
  unfold MO
  exact MOg_set (by decide) (Nat.le_of_ble_eq_true rfl) rfl
theorem MO_f18 {v : Int32} : fup (MO dA am P T G L kt tr) 0 (am 0, .inr (5, (MOf am P G kt tr).set 18 (.int v))) = MO dA am (up P 7 2 v) T G L kt tr := by
  unfold MO
  exact MOg_set (by decide) (Nat.le_of_ble_eq_true rfl) rfl
theorem MO_f19 {v : Int32} : fup (MO dA am P T G L kt tr) 0 (am 0, .inr (5, (MOf am P G kt tr).set 19 (.int v))) = MO dA am (up P 7 3 v) T G L kt tr := by
  unfold MO
  exact MOg_set (by decide) (Nat.le_of_ble_eq_true rfl) rfl
theorem MO_f20 {v : Int32} : fup (MO dA am P T G L kt tr) 0 (am 0, .inr (5, (MOf am P G kt tr).set 20 (.int v))) = MO dA am (up P 7 4 v) T G L kt tr := by
  unfold MO
  exact MOg_set (by decide) (Nat.le_of_ble_eq_true rfl) rfl
theorem MO_f21 {v : Int32} : fup (MO dA am P T G L kt tr) 0 (am 0, .inr (5, (MOf am P G kt tr).set 21 (.int v))) = MO dA am (up P 7 5 v) T G L kt tr := by
  unfold MO
  exact MOg_set (by decide) (Nat.le_of_ble_eq_true rfl) rfl
theorem MO_f7 {v : Int32} : fup (MO dA am P T G L kt tr) 0 (am 0, .inr (5, (MOf am P G kt tr).set 7 (.int v))) = MO dA am P T (upd G 0 v) L kt tr := by
  unfold MO
  exact MOg_set (by decide) (Nat.le_of_ble_eq_true rfl) rfl
theorem MO_f24 {v : Int32} : fup (MO dA am P T G L kt tr) 0 (am 0, .inr (5, (MOf am P G kt tr).set 24 (.int v))) = MO dA am P T (upd G 1 v) L kt tr := by
  unfold MO
  exact MOg_set (by decide) (Nat.le_of_ble_eq_true rfl) rfl
theorem MO_f25 {v : Int32} : fup (MO dA am P T G L kt tr) 0 (am 0, .inr (5, (MOf am P G kt tr).set 25 (.int v))) = MO dA am P T (upd G 2 v) L kt tr := by
  unfold MO
  exact MOg_set (by decide) (Nat.le_of_ble_eq_true rfl) rfl
theorem MO_f26 {v : Int32} : fup (MO dA am P T G L kt tr) 0 (am 0, .inr (5, (MOf am P G kt tr).set 26 (.int v))) = MO dA am P T (upd G 3 v) L kt tr := by
  unfold MO
  exact MOg_set (by decide) (Nat.le_of_ble_eq_true rfl) rfl
theorem MO_f27 {v : Int32} : fup (MO dA am P T G L kt tr) 0 (am 0, .inr (5, (MOf am P G kt tr).set 27 (.int v))) = MO dA am P T (upd G 4 v) L kt tr := by
  unfold MO
  exact MOg_set (by decide) (Nat.le_of_ble_eq_true rfl) rfl
theorem MO_f28 {v : Int32} : fup (MO dA am P T G L kt tr) 0 (am 0, .inr (5, (MOf am P G kt tr).set 28 (.int v))) = MO dA am P T (upd G 5 v) L kt tr := by
  unfold MO
  exact MOg_set (by decide) (Nat.le_of_ble_eq_true rfl) rfl
theorem MO_f29 {v : Int32} : fup (MO dA am P T G L kt tr) 0 (am 0, .inr (5, (MOf am P G kt tr).set 29 (.int v))) = MO dA am P T (upd G 6 v) L kt tr := by
  unfold MO
  exact MOg_set (by decide) (Nat.le_of_ble_eq_true rfl) rfl
theorem MO_f30 {v : Int32} : fup (MO dA am P T G L kt tr) 0 (am 0, .inr (5, (MOf am P G kt tr).set 30 (.int v))) = MO dA am P T (upd G 7 v) L kt tr := by
  unfold MO
  exact MOg_set (by decide) (Nat.le_of_ble_eq_true rfl) rfl
theorem MO_f31 {v : Int32} : fup (MO dA am P T G L kt tr) 0 (am 0, .inr (5, (MOf am P G kt tr).set 31 (.int v))) = MO dA am P T (upd G 8 v) L kt tr := by
  unfold MO
  exact MOg_set (by decide) (Nat.le_of_ble_eq_true rfl) rfl
theorem MO_f22 {a : Nat} : fup (MO dA am P T G L kt tr) 0 (am 0, .inr (5, (MOf am P G kt tr).set 22 (.ref a))) = MO dA am P T G L (some a) tr := by
  unfold MO
  exact MOg_set (by decide) (Nat.le_of_ble_eq_true rfl) rfl
theorem MO_f23 {a : Nat} : fup (MO dA am P T G L kt tr) 0 (am 0, .inr (5, (MOf am P G kt tr).set 23 (.ref a))) = MO dA am P T G L kt (some a) := by
  unfold MO
  exact MOg_set (by decide) (Nat.le_of_ble_eq_true rfl) rfl
theorem MOl_upL {f i : Nat} {v : Int64} (h : f < 8) : MOl dA am P G (upL L f i v) kt tr = MOl dA am P G L kt tr := by
  unfold MOl
  rw [upL_o (L := L) (f := f) (g := 8) (by omega)]
theorem MO_atab {j i : Nat} {v : Int32} (h1 : 30 ≤ j) (h : j < 60) : fup (MO dA am P T G L kt tr) j (am j, .inl (dA 0, 201, .inl (upd (T (j - 30)) i v))) = MO dA am P (up T (j - 30) i v) G L kt tr := by
  funext k
  by_cases hk : k = j
  · subst hk
    rw [fup_s, MO_tab h1 h, up_s]
  · rw [fup_n hk]
    show (if k < 20 then ((MOl dA am P G L kt tr)[k]?).map (fun e => (am k, e)) else MOt dA am T L k) = (if k < 20 then ((MOl dA am P G L kt tr)[k]?).map (fun e => (am k, e)) else MOt dA am (up T (j - 30) i v) L k)
    by_cases hk2 : k < 20
    · rw [if_pos hk2, if_pos hk2]
    · rw [if_neg hk2, if_neg hk2]
      show (if k < 20 then none else if k < 28 then _ else if k < 30 then none else if k < 60 then some (am k, Sum.inl (dA 0, 201, Sum.inl (T (k - 30)))) else none) = (if k < 20 then none else if k < 28 then _ else if k < 30 then none else if k < 60 then some (am k, Sum.inl (dA 0, 201, Sum.inl (up T (j - 30) i v (k - 30)))) else none)
      by_cases hk3 : k < 30
      · rw [if_pos hk3, if_pos hk3]
      · rw [up_o (P := T) (f := j - 30) (g := k - 30) (by omega)]
theorem MO_at0 {r i : Nat} {v : Int32} (h : r < 10) : fup (MO dA am P T G L kt tr) (30 + r) (am (30 + r), .inl (dA 0, 201, .inl (upd (T r) i v))) = MO dA am P (up T r i v) G L kt tr := by
  have := MO_atab (dA := dA) (am := am) (P := P) (T := T) (G := G) (L := L) (kt := kt) (tr := tr) (j := 30 + r) (i := i) (v := v) (by omega) (by omega)
  rwa [show 30 + r - 30 = r by omega] at this
theorem MO_at1 {r i : Nat} {v : Int32} (h : r < 10) : fup (MO dA am P T G L kt tr) (40 + r) (am (40 + r), .inl (dA 0, 201, .inl (upd (T (10 + r)) i v))) = MO dA am P (up T (10 + r) i v) G L kt tr := by
  have := MO_atab (dA := dA) (am := am) (P := P) (T := T) (G := G) (L := L) (kt := kt) (tr := tr) (j := 40 + r) (i := i) (v := v) (by omega) (by omega)
  rwa [show 40 + r - 30 = 10 + r by omega] at this
theorem MO_at2 {r i : Nat} {v : Int32} (h : r < 10) : fup (MO dA am P T G L kt tr) (50 + r) (am (50 + r), .inl (dA 0, 201, .inl (upd (T (20 + r)) i v))) = MO dA am P (up T (20 + r) i v) G L kt tr := by
  have := MO_atab (dA := dA) (am := am) (P := P) (T := T) (G := G) (L := L) (kt := kt) (tr := tr) (j := 50 + r) (i := i) (v := v) (by omega) (by omega)
  rwa [show 50 + r - 30 = 20 + r by omega] at this
theorem MO_ar {r i : Nat} {v : Int64} (h : r < 8) : fup (MO dA am P T G L kt tr) (20 + r) (am (20 + r), .inl (dA 3, 40, .inr (.inl (vp_updL (L r) i v)))) = MO dA am P T G (upL L r i v) kt tr := by
  funext k
  by_cases hk : k = 20 + r
  · subst hk
    rw [fup_s, MO_row h, upL_s]
  · rw [fup_n hk]
    show (if k < 20 then ((MOl dA am P G L kt tr)[k]?).map (fun e => (am k, e)) else MOt dA am T L k) = (if k < 20 then ((MOl dA am P G (upL L r i v) kt tr)[k]?).map (fun e => (am k, e)) else MOt dA am T (upL L r i v) k)
    rw [MOl_upL h]
    by_cases hk2 : k < 20
    · rw [if_pos hk2, if_pos hk2]
    · rw [if_neg hk2, if_neg hk2]
      show (if k < 20 then none else if k < 28 then some (am k, Sum.inl (dA 3, 40, Sum.inr (Sum.inl (L (k - 20))))) else _) = (if k < 20 then none else if k < 28 then some (am k, Sum.inl (dA 3, 40, Sum.inr (Sum.inl (upL L r i v (k - 20))))) else _)
      by_cases hk3 : k < 28
      · rw [upL_o (L := L) (f := r) (g := k - 20) (by omega)]
      · rw [if_neg hk3, if_neg hk3]
end MOS
def cN (x : Int32) : Nat := x.toNatClampNeg
theorem cN_of {x : Int32} {i : Nat} (h : x = nI i) (hi : i < 65536) : cN x = i := by rw [h]; exact nI_clamp (by omega)
theorem nat_le {x y : Int32} {a b : Nat} (hx : x = nI a) (hy : y = nI b) (ha : a < 65536) (hb : b < 65536) : x ≤ y ↔ a ≤ b := by rw [hx, hy]; exact nI_leI (by omega) (by omega)
theorem nat_lt {x y : Int32} {a b : Nat} (hx : x = nI a) (hy : y = nI b) (ha : a < 65536) (hb : b < 65536) : x < y ↔ a < b := by rw [hx, hy]; exact nI_ltI (by omega) (by omega)
theorem nat_eq {x y : Int32} {a b : Nat} (hx : x = nI a) (hy : y = nI b) (ha : a < 65536) (hb : b < 65536) : x = y ↔ a = b := by rw [hx, hy]; exact nI_eq (by omega) (by omega)
theorem nI_nn (k : Nat) : -(-(nI k)) = nI k := by grind
theorem cN_nI {i : Nat} (h : i < 65536) : cN (nI i) = i := nI_clamp (by omega)
