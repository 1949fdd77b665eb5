/-! THE REFERENCE: methods that only read, without loops; refuse -/
def d5_in (v : Int64) (x : Int64) (y : Int64) : Int32 := if v < x then 0 else (if y < v then 0 else 1)
set_option maxHeartbeats 4000000 in
set_option maxRecDepth 100000 in
theorem m5_in (l : Launch) (D : va_G) (dA : Nat → ClassId) (w : fw)  (v : Int64) (x : Int64) (y : Int64)  : Met l yX5_in (ws_ yX5_in cX5_in 6 (some .boolean)) ({ frames := 0, cells := 0, slots := 0, locals := 0 } : Room) (fPc D dA w [.long v, .long x, .long y]) (fQp (.int (d5_in v x y))) 0 0 (fun _ => False) := by
  refine Met.ofW (cc := cX5_in) (maxL := 6) (ret := (some .boolean)) (by decide) rfl ?_
  intro p e s m args below meth c s₁ B hml hv
  obtain ⟨rfl, hP, hG⟩ := hv
  have hK := hG.1
  have hx := B.exec
  have hb := B.bytes
  have hr := B.returns
  have hts := atoms_spec (ws := (ws_ yX5_in cX5_in 6 (some .boolean))) B.pre
  have hts : ∀ w ∈ lw_all, w.before _ s = true := fun w h => hts w (List.mem_cons_of_mem _ h)
  have hown : s.vm.findClass RX5 = some m.cls := findClass_of_methodNamed B.named
  have hlocks := B.notSynchronized
  have hl := lv_entry ([.long v, .long x, .long y]) (n := 6) (Nat.le_of_ble_eq_true rfl)
  rw [lg_entry_eq]
  generalize (lg_sl ([.long v, .long x, .long y]) ++ List.replicate (6 - (lg_sl ([.long v, .long x, .long y])).length) Slot.unset).toArray = ls at hl ⊢
  have hl : lv_has ls 6 [(0, .long v), (2, .long x), (4, .long y)] := hl
  refine lv_lload_n hx hb dX5_in_0 rfl (lv_at hl 0 rfl) ?_
  refine lv_lload_n hx hb dX5_in_1 rfl (lv_at hl 1 rfl) ?_
  refine W.lcmp hx hb dX5_in_2 ?_
  refine f_if_ltL (tgt := 17) hx hb dX5_in_3 (by decide) (fun c_3 => ?_) (fun c_3 => ?_)
  · refine lv_iconst (v := 0) hx hb dX5_in_17 (by decide) ?_
    exact f_retz hx hb hr hlocks dX5_in_18 rfl (by unfold d5_in; rw [if_pos c_3])
  · refine lv_lload_n hx hb dX5_in_6 rfl (lv_at hl 0 rfl) ?_
    refine lv_lload hx hb dX5_in_7 (lv_at hl 2 rfl) ?_
    refine W.lcmp hx hb dX5_in_9 ?_
    refine f_if_gtL (tgt := 17) hx hb dX5_in_10 (by decide) (fun c_10 => ?_) (fun c_10 => ?_)
    · refine lv_iconst (v := 0) hx hb dX5_in_17 (by decide) ?_
      exact f_retz hx hb hr hlocks dX5_in_18 rfl (by unfold d5_in; rw [if_neg c_3, if_pos c_10])
    · refine lv_iconst (v := 1) hx hb dX5_in_13 (by decide) ?_
      refine lv_goto (tgt := 18) hx hb dX5_in_14 (by decide) ?_
      exact f_retz hx hb hr hlocks dX5_in_18 rfl (by unfold d5_in; rw [if_neg c_3, if_neg c_10])
theorem z5_in {v : Int64} {x : Int64} {y : Int64} : narrow .boolean (.int (d5_in v x y)) = .int (d5_in v x y) := by
  unfold d5_in
  split
  · first | rfl | (dsimp only; rfl)
  · split
    · first | rfl | (dsimp only; rfl)
    · first | rfl | (dsimp only; rfl)
def d5_isStep (P : Nat → Nat → Int32) (x : Int32) : Int32 := d5_in x.toInt64 0 (((P 7 0) - 1).toInt64)
set_option maxHeartbeats 4000000 in
set_option maxRecDepth 100000 in
theorem m5_isStep (l : Launch) (D : va_G) (dA : Nat → ClassId) (am : Nat → Nat) (P T : Nat → Nat → Int32) (G : Nat → Int32) (L : Nat → Nat → Int64) (kt tr : Option Nat)  (x : Int32)  : Met l yX5_isStep (ws_ yX5_isStep cX5_isStep 2 (some .boolean)) ({ frames := 1, cells := 0, slots := 0, locals := 25 } : Room) (fPc D dA (MO dA am P T G L kt tr) [.ref (am 0), .int x]) (fQp (.int (d5_isStep P x))) 0 0 (fun _ => False) := by
  refine Met.ofW (cc := cX5_isStep) (maxL := 2) (ret := (some .boolean)) (by decide) rfl ?_
  intro p e s m args below meth c s₁ B hml hv
  obtain ⟨rfl, hP, hG⟩ := hv
  have hK := hG.1
  have hx := B.exec
  have hb := B.bytes
  have hr := B.returns
  have hts := atoms_spec (ws := (ws_ yX5_isStep cX5_isStep 2 (some .boolean))) B.pre
  have hts : ∀ w ∈ lw_all, w.before _ s = true := fun w h => hts w (List.mem_cons_of_mem _ h)
  have hown : s.vm.findClass RX5 = some m.cls := findClass_of_methodNamed B.named
  have hlocks := B.notSynchronized
  have hl := lv_entry ([.ref (am 0), .int x]) (n := 2) (Nat.le_of_ble_eq_true rfl)
  rw [lg_entry_eq]
  generalize (lg_sl ([.ref (am 0), .int x]) ++ List.replicate (2 - (lg_sl ([.ref (am 0), .int x])).length) Slot.unset).toArray = ls at hl ⊢
  have hl : lv_has ls 2 [(0, .ref (am 0)), (1, .int x)] := hl
  refine lv_iload_n hx hb dX5_isStep_0 rfl (lv_at hl 1 rfl) ?_
  refine lv_i2l (v := x.toInt64) hx hb dX5_isStep_1 rfl ?_
  refine lv_lconst (v := 0) hx hb dX5_isStep_2 (by decide) ?_
  refine lv_aload_n hx hb dX5_isStep_3 rfl (lv_at hl 0 rfl) ?_
  refine f_get hx hb hts in_X5 hown hK hP 0 MO_0 rfl 9 (by decide) (hts _ q1519) (fun x h => h) rfl dX5_isStep_4 ?_
  refine lv_iconst (v := 1) hx hb dX5_isStep_7 (by decide) ?_
  refine lv_isub hx hb dX5_isStep_8 ?_
  refine lv_i2l (v := ((P 7 0) - 1).toInt64) hx hb dX5_isStep_9 rfl ?_
  refine f_pS hx hb hml hown hts (m5_in l D dA (MO dA am P T G L kt tr)  x.toInt64 0 (((P 7 0) - 1).toInt64) ) (va_cwS 3 hts (lw_S q1624 q1625 q79 q1626) rfl rfl rfl (by decide +kernel) ⟨Nat.le_of_ble_eq_true rfl, Nat.le_of_ble_eq_true rfl⟩) hG hP f_id rfl hl.1 rfl (Nat.le_of_ble_eq_true rfl) dX5_isStep_10 ⟨Nat.zero_le _, Nat.zero_le _⟩ ?_
  exact f_retz hx hb hr hlocks dX5_isStep_13 z5_in (by unfold d5_isStep; rfl)
theorem z5_isStep {P : Nat → Nat → Int32} {x : Int32} : narrow .boolean (.int (d5_isStep P x)) = .int (d5_isStep P x) := by
  unfold d5_isStep
  exact z5_in
def d5_isWay (P : Nat → Nat → Int32) (x : Int64) : Int32 := d5_in x 0 (((P 7 1) - 1).toInt64)
set_option maxHeartbeats 4000000 in
set_option maxRecDepth 100000 in
theorem m5_isWay (l : Launch) (D : va_G) (dA : Nat → ClassId) (am : Nat → Nat) (P T : Nat → Nat → Int32) (G : Nat → Int32) (L : Nat → Nat → Int64) (kt tr : Option Nat)  (x : Int64)  : Met l yX5_isWay (ws_ yX5_isWay cX5_isWay 3 (some .boolean)) ({ frames := 1, cells := 0, slots := 0, locals := 25 } : Room) (fPc D dA (MO dA am P T G L kt tr) [.ref (am 0), .long x]) (fQp (.int (d5_isWay P x))) 0 0 (fun _ => False) := by
  refine Met.ofW (cc := cX5_isWay) (maxL := 3) (ret := (some .boolean)) (by decide) rfl ?_
  intro p e s m args below meth c s₁ B hml hv
  obtain ⟨rfl, hP, hG⟩ := hv
  have hK := hG.1
  have hx := B.exec
  have hb := B.bytes
  have hr := B.returns
  have hts := atoms_spec (ws := (ws_ yX5_isWay cX5_isWay 3 (some .boolean))) B.pre
  have hts : ∀ w ∈ lw_all, w.before _ s = true := fun w h => hts w (List.mem_cons_of_mem _ h)
  have hown : s.vm.findClass RX5 = some m.cls := findClass_of_methodNamed B.named
  have hlocks := B.notSynchronized
  have hl := lv_entry ([.ref (am 0), .long x]) (n := 3) (Nat.le_of_ble_eq_true rfl)
  rw [lg_entry_eq]
  generalize (lg_sl ([.ref (am 0), .long x]) ++ List.replicate (3 - (lg_sl ([.ref (am 0), .long x])).length) Slot.unset).toArray = ls at hl ⊢
  have hl : lv_has ls 3 [(0, .ref (am 0)), (1, .long x)] := hl
  refine lv_lload_n hx hb dX5_isWay_0 rfl (lv_at hl 1 rfl) ?_
  refine lv_lconst (v := 0) hx hb dX5_isWay_1 (by decide) ?_
  refine lv_aload_n hx hb dX5_isWay_2 rfl (lv_at hl 0 rfl) ?_
  refine f_get hx hb hts in_X5 hown hK hP 0 MO_0 rfl 14 (by decide) (hts _ q1524) (fun x h => h) rfl dX5_isWay_3 ?_
  refine lv_iconst (v := 1) hx hb dX5_isWay_6 (by decide) ?_
  refine lv_isub hx hb dX5_isWay_7 ?_
  refine lv_i2l (v := ((P 7 1) - 1).toInt64) hx hb dX5_isWay_8 rfl ?_
  refine f_pS hx hb hml hown hts (m5_in l D dA (MO dA am P T G L kt tr)  x 0 (((P 7 1) - 1).toInt64) ) (va_cwS 3 hts (lw_S q1624 q1625 q79 q1626) rfl rfl rfl (by decide +kernel) ⟨Nat.le_of_ble_eq_true rfl, Nat.le_of_ble_eq_true rfl⟩) hG hP f_id rfl hl.1 rfl (Nat.le_of_ble_eq_true rfl) dX5_isWay_9 ⟨Nat.zero_le _, Nat.zero_le _⟩ ?_
  exact f_retz hx hb hr hlocks dX5_isWay_12 z5_in (by unfold d5_isWay; rfl)
theorem z5_isWay {P : Nat → Nat → Int32} {x : Int64} : narrow .boolean (.int (d5_isWay P x)) = .int (d5_isWay P x) := by
  unfold d5_isWay
  exact z5_in
def d5_isRailed (P : Nat → Nat → Int32) (w : Nat) (i : Nat) : Int32 := if (P 4 w) = 3 then (if (P 1 i) = 0 then 0 else 1) else 0
set_option maxHeartbeats 4000000 in
set_option maxRecDepth 100000 in
theorem m5_isRailed (l : Launch) (D : va_G) (dA : Nat → ClassId) (am : Nat → Nat) (P T : Nat → Nat → Int32) (G : Nat → Int32) (L : Nat → Nat → Int64) (kt tr : Option Nat)  (w : Nat) (i : Nat) (h_w : w < 6) (h_i : i < 9) : Met l yX5_isRailed (ws_ yX5_isRailed cX5_isRailed 3 (some .boolean)) ({ frames := 0, cells := 0, slots := 0, locals := 0 } : Room) (fPc D dA (MO dA am P T G L kt tr) [.ref (am 0), .int (nI w), .int (nI i)]) (fQp (.int (d5_isRailed P w i))) 0 0 (fun _ => False) := by
  refine Met.ofW (cc := cX5_isRailed) (maxL := 3) (ret := (some .boolean)) (by decide) rfl ?_
  intro p e s m args below meth c s₁ B hml hv
  obtain ⟨rfl, hP, hG⟩ := hv
  have hK := hG.1
  have hx := B.exec
  have hb := B.bytes
  have hr := B.returns
  have hts := atoms_spec (ws := (ws_ yX5_isRailed cX5_isRailed 3 (some .boolean))) B.pre
  have hts : ∀ w ∈ lw_all, w.before _ s = true := fun w h => hts w (List.mem_cons_of_mem _ h)
  have hown : s.vm.findClass RX5 = some m.cls := findClass_of_methodNamed B.named
  have hlocks := B.notSynchronized
  have hl := lv_entry ([.ref (am 0), .int (nI w), .int (nI i)]) (n := 3) (Nat.le_of_ble_eq_true rfl)
  rw [lg_entry_eq]
  generalize (lg_sl ([.ref (am 0), .int (nI w), .int (nI i)]) ++ List.replicate (3 - (lg_sl ([.ref (am 0), .int (nI w), .int (nI i)])).length) Slot.unset).toArray = ls at hl ⊢
  have hl : lv_has ls 3 [(0, .ref (am 0)), (1, .int (nI w)), (2, .int (nI i))] := hl
  refine lv_aload_n hx hb dX5_isRailed_0 rfl (lv_at hl 0 rfl) ?_
  refine f_get hx hb hts in_X5 hown hK hP 0 MO_0 rfl 15 (by decide) (hts _ q1525) (fun x h => h) rfl dX5_isRailed_1 ?_
  refine lv_iload_n hx hb dX5_isRailed_4 rfl (lv_at hl 1 rfl) ?_
  refine f_iald hx hb hK hP 13 0 MO_13 rfl w rfl (by omega) (by decide) dX5_isRailed_5 ?_
  refine lv_iconst (v := 3) hx hb dX5_isRailed_6 (by decide) ?_
  refine lv_icmp_ne (tgt := 23) hx hb dX5_isRailed_7 (by decide) (fun c_7 => ?_) (fun c_7 => ?_)
  · refine lv_iconst (v := 0) hx hb dX5_isRailed_23 (by decide) ?_
    exact f_retz hx hb hr hlocks dX5_isRailed_24 rfl (by unfold d5_isRailed; rw [if_neg c_7])
  · refine lv_aload_n hx hb dX5_isRailed_10 rfl (lv_at hl 0 rfl) ?_
    refine f_get hx hb hts in_X5 hown hK hP 0 MO_0 rfl 11 (by decide) (hts _ q1521) (fun x h => h) rfl dX5_isRailed_11 ?_
    refine lv_iload_n hx hb dX5_isRailed_14 rfl (lv_at hl 2 rfl) ?_
    refine f_zald hx hb hK hP 10 4 MO_10 rfl i rfl (by omega) (by decide) dX5_isRailed_15 ?_
    refine lv_if_eq (tgt := 23) hx hb dX5_isRailed_16 (by decide) (fun c_16 => ?_) (fun c_16 => ?_)
    · refine lv_iconst (v := 0) hx hb dX5_isRailed_23 (by decide) ?_
      exact f_retz hx hb hr hlocks dX5_isRailed_24 rfl (by unfold d5_isRailed; rw [if_pos c_7, if_pos c_16])
    · refine lv_iconst (v := 1) hx hb dX5_isRailed_19 (by decide) ?_
      refine lv_goto (tgt := 24) hx hb dX5_isRailed_20 (by decide) ?_
      exact f_retz hx hb hr hlocks dX5_isRailed_24 rfl (by unfold d5_isRailed; rw [if_pos c_7, if_neg c_16])
theorem z5_isRailed {P : Nat → Nat → Int32} {w : Nat} {i : Nat} : narrow .boolean (.int (d5_isRailed P w i)) = .int (d5_isRailed P w i) := by
  unfold d5_isRailed
  split
  · split
    · first | rfl | (dsimp only; rfl)
    · first | rfl | (dsimp only; rfl)
  · first | rfl | (dsimp only; rfl)
def d5_load (P : Nat → Nat → Int32) (w : Nat) (i : Nat) : Int32 := if (P 4 w) = 0 then (P 6 0) / 2 else (if (P 4 w) = 1 then ((P 6 0) * (10 - (P 5 w))) / 20 else (if (P 4 w) = 2 then 0 else (if (P 4 w) = 3 then (if (P 1 i) = 0 then ((P 6 0) * (10 - (P 5 w))) / 20 else (if (((P 6 0) * (10 - (P 5 w))) / 20) ≤ (P 5 w) then 0 else (((P 6 0) * (10 - (P 5 w))) / 20) - (P 5 w))) else 0)))
set_option maxHeartbeats 4000000 in
set_option maxRecDepth 100000 in
theorem m5_load (l : Launch) (D : va_G) (dA : Nat → ClassId) (am : Nat → Nat) (P T : Nat → Nat → Int32) (G : Nat → Int32) (L : Nat → Nat → Int64) (kt tr : Option Nat)  (w : Nat) (i : Nat) (h_w : w < 6) (h_i : i < 9) : Met l yX5_load (ws_ yX5_load cX5_load 4 (some .int)) ({ frames := 0, cells := 0, slots := 0, locals := 0 } : Room) (fPc D dA (MO dA am P T G L kt tr) [.ref (am 0), .int (nI w), .int (nI i)]) (fQp (.int (d5_load P w i))) 0 0 (fun _ => False) := by
  refine Met.ofW (cc := cX5_load) (maxL := 4) (ret := (some .int)) (by decide) rfl ?_
  intro p e s m args below meth c s₁ B hml hv
  obtain ⟨rfl, hP, hG⟩ := hv
  have hK := hG.1
  have hx := B.exec
  have hb := B.bytes
  have hr := B.returns
  have hts := atoms_spec (ws := (ws_ yX5_load cX5_load 4 (some .int))) B.pre
  have hts : ∀ w ∈ lw_all, w.before _ s = true := fun w h => hts w (List.mem_cons_of_mem _ h)
  have hown : s.vm.findClass RX5 = some m.cls := findClass_of_methodNamed B.named
  have hlocks := B.notSynchronized
  have hl := lv_entry ([.ref (am 0), .int (nI w), .int (nI i)]) (n := 4) (Nat.le_of_ble_eq_true rfl)
  rw [lg_entry_eq]
  generalize (lg_sl ([.ref (am 0), .int (nI w), .int (nI i)]) ++ List.replicate (4 - (lg_sl ([.ref (am 0), .int (nI w), .int (nI i)])).length) Slot.unset).toArray = ls at hl ⊢
  have hl : lv_has ls 4 [(0, .ref (am 0)), (1, .int (nI w)), (2, .int (nI i))] := hl
  refine lv_aload_n hx hb dX5_load_0 rfl (lv_at hl 0 rfl) ?_
  refine f_get hx hb hts in_X5 hown hK hP 0 MO_0 rfl 17 (by decide) (hts _ q1527) (fun x h => h) rfl dX5_load_1 ?_
  refine lv_iconst (v := 0) hx hb dX5_load_4 (by decide) ?_
  refine f_iald hx hb hK hP 15 0 MO_15 rfl 0 rfl (by omega) (by decide) dX5_load_5 ?_
  refine lv_bipush (v := 10) hx hb dX5_load_6 (by decide) ?_
  refine lv_aload_n hx hb dX5_load_8 rfl (lv_at hl 0 rfl) ?_
  refine f_get hx hb hts in_X5 hown hK hP 0 MO_0 rfl 16 (by decide) (hts _ q1526) (fun x h => h) rfl dX5_load_9 ?_
  refine lv_iload_n hx hb dX5_load_12 rfl (lv_at hl 1 rfl) ?_
  refine f_iald hx hb hK hP 14 0 MO_14 rfl w rfl (by omega) (by decide) dX5_load_13 ?_
  refine lv_isub hx hb dX5_load_14 ?_
  refine lv_imul hx hb dX5_load_15 ?_
  refine lv_bipush (v := 20) hx hb dX5_load_16 (by decide) ?_
  refine lv_idiv hx hb dX5_load_18 (by decide) ?_
  refine lv_istore_n (lv' := [(3, .int (((P 6 0) * (10 - (P 5 w))) / 20)), (0, .ref (am 0)), (1, .int (nI w)), (2, .int (nI i))]) hx hb dX5_load_19 rfl hl (by decide) rfl (fun ls hl => ?_)
  refine lv_aload_n hx hb dX5_load_20 rfl (lv_at hl 1 rfl) ?_
  refine f_get hx hb hts in_X5 hown hK hP 0 MO_0 rfl 15 (by decide) (hts _ q1525) (fun x h => h) rfl dX5_load_21 ?_
  refine lv_iload_n hx hb dX5_load_24 rfl (lv_at hl 2 rfl) ?_
  refine f_iald hx hb hK hP 13 0 MO_13 rfl w rfl (by omega) (by decide) dX5_load_25 ?_
  refine f_swCase ((P 4 w) = 0) (fun c_26_0 => ?_) (fun c_26_0 => ?_)
  · refine lv_tableIn (tgt := 56) hx hb dX5_load_26 (by rw [c_26_0]; decide) (by rw [c_26_0]; decide) (by rw [c_26_0]; rfl) (by decide) ?_
    refine lv_aload_n hx hb dX5_load_56 rfl (lv_at hl 1 rfl) ?_
    refine f_get hx hb hts in_X5 hown hK hP 0 MO_0 rfl 17 (by decide) (hts _ q1527) (fun x h => h) rfl dX5_load_57 ?_
    refine lv_iconst (v := 0) hx hb dX5_load_60 (by decide) ?_
    refine f_iald hx hb hK hP 15 0 MO_15 rfl 0 rfl (by omega) (by decide) dX5_load_61 ?_
    refine lv_iconst (v := 2) hx hb dX5_load_62 (by decide) ?_
    refine lv_idiv hx hb dX5_load_63 (by decide) ?_
    exact f_reti hx hb hr hlocks dX5_load_64 (by unfold d5_load; rw [if_pos c_26_0])
  · refine f_swCase ((P 4 w) = 1) (fun c_26_1 => ?_) (fun c_26_1 => ?_)
    · refine lv_tableIn (tgt := 65) hx hb dX5_load_26 (by rw [c_26_1]; decide) (by rw [c_26_1]; decide) (by rw [c_26_1]; rfl) (by decide) ?_
      refine lv_iload_n hx hb dX5_load_65 rfl (lv_at hl 0 rfl) ?_
      exact f_reti hx hb hr hlocks dX5_load_66 (by unfold d5_load; rw [if_neg c_26_0, if_pos c_26_1])
    · refine f_swCase ((P 4 w) = 2) (fun c_26_2 => ?_) (fun c_26_2 => ?_)
      · refine lv_tableIn (tgt := 103) hx hb dX5_load_26 (by rw [c_26_2]; decide) (by rw [c_26_2]; decide) (by rw [c_26_2]; rfl) (by decide) ?_
        refine lv_iconst (v := 0) hx hb dX5_load_103 (by decide) ?_
        exact f_reti hx hb hr hlocks dX5_load_104 (by unfold d5_load; rw [if_neg c_26_0, if_neg c_26_1, if_pos c_26_2])
      · refine f_swCase ((P 4 w) = 3) (fun c_26_3 => ?_) (fun c_26_3 => ?_)
        · refine lv_tableIn (tgt := 67) hx hb dX5_load_26 (by rw [c_26_3]; decide) (by rw [c_26_3]; decide) (by rw [c_26_3]; rfl) (by decide) ?_
          refine lv_aload_n hx hb dX5_load_67 rfl (lv_at hl 1 rfl) ?_
          refine f_get hx hb hts in_X5 hown hK hP 0 MO_0 rfl 11 (by decide) (hts _ q1521) (fun x h => h) rfl dX5_load_68 ?_
          refine lv_iload_n hx hb dX5_load_71 rfl (lv_at hl 3 rfl) ?_
          refine f_zald hx hb hK hP 10 4 MO_10 rfl i rfl (by omega) (by decide) dX5_load_72 ?_
          refine lv_if_ne (tgt := 80) hx hb dX5_load_73 (by decide) (fun c_73 => ?_) (fun c_73 => ?_)
          · refine lv_iload_n hx hb dX5_load_80 rfl (lv_at hl 0 rfl) ?_
            refine lv_aload_n hx hb dX5_load_81 rfl (lv_at hl 1 rfl) ?_
            refine f_get hx hb hts in_X5 hown hK hP 0 MO_0 rfl 16 (by decide) (hts _ q1526) (fun x h => h) rfl dX5_load_82 ?_
            refine lv_iload_n hx hb dX5_load_85 rfl (lv_at hl 2 rfl) ?_
            refine f_iald hx hb hK hP 14 0 MO_14 rfl w rfl (by omega) (by decide) dX5_load_86 ?_
            refine lv_icmp_le (tgt := 101) hx hb dX5_load_87 (by decide) (fun c_87 => ?_) (fun c_87 => ?_)
            · refine lv_iconst (v := 0) hx hb dX5_load_101 (by decide) ?_
              exact f_reti hx hb hr hlocks dX5_load_102 (by unfold d5_load; rw [if_neg c_26_0, if_neg c_26_1, if_neg c_26_2, if_pos c_26_3, if_neg c_73, if_pos c_87])
            · refine lv_iload_n hx hb dX5_load_90 rfl (lv_at hl 0 rfl) ?_
              refine lv_aload_n hx hb dX5_load_91 rfl (lv_at hl 1 rfl) ?_
              refine f_get hx hb hts in_X5 hown hK hP 0 MO_0 rfl 16 (by decide) (hts _ q1526) (fun x h => h) rfl dX5_load_92 ?_
              refine lv_iload_n hx hb dX5_load_95 rfl (lv_at hl 2 rfl) ?_
              refine f_iald hx hb hK hP 14 0 MO_14 rfl w rfl (by omega) (by decide) dX5_load_96 ?_
              refine lv_isub hx hb dX5_load_97 ?_
              refine lv_goto (tgt := 102) hx hb dX5_load_98 (by decide) ?_
              exact f_reti hx hb hr hlocks dX5_load_102 (by unfold d5_load; rw [if_neg c_26_0, if_neg c_26_1, if_neg c_26_2, if_pos c_26_3, if_neg c_73, if_neg c_87])
          · refine lv_iload_n hx hb dX5_load_76 rfl (lv_at hl 0 rfl) ?_
            refine lv_goto (tgt := 102) hx hb dX5_load_77 (by decide) ?_
            exact f_reti hx hb hr hlocks dX5_load_102 (by unfold d5_load; rw [if_neg c_26_0, if_neg c_26_1, if_neg c_26_2, if_pos c_26_3, if_pos c_73])
        · refine lv_tableOut (tgt := 103) hx hb dX5_load_26 (f_swOut (lo := 0) (n := 4) (f_sw4 (lo := 0) c_26_0 c_26_1 c_26_2 c_26_3) rfl) (by decide) ?_
          refine lv_iconst (v := 0) hx hb dX5_load_103 (by decide) ?_
          exact f_reti hx hb hr hlocks dX5_load_104 (by unfold d5_load; rw [if_neg c_26_0, if_neg c_26_1, if_neg c_26_2, if_neg c_26_3])
def d5_hands (P : Nat → Nat → Int32) (w : Nat) : Int32 := if (P 4 w) = 1 then ((P 6 0) * (P 5 w)) / 10 else (if (P 4 w) = 2 then P 6 0 else (if (P 4 w) = 3 then ((P 6 0) * (P 5 w)) / 10 else (if (P 4 w) = 4 then (P 6 0) / 2 else 0)))
set_option maxHeartbeats 4000000 in
set_option maxRecDepth 100000 in
theorem m5_hands (l : Launch) (D : va_G) (dA : Nat → ClassId) (am : Nat → Nat) (P T : Nat → Nat → Int32) (G : Nat → Int32) (L : Nat → Nat → Int64) (kt tr : Option Nat)  (w : Nat) (h_w : w < 6) : Met l yX5_hands (ws_ yX5_hands cX5_hands 2 (some .int)) ({ frames := 0, cells := 0, slots := 0, locals := 0 } : Room) (fPc D dA (MO dA am P T G L kt tr) [.ref (am 0), .int (nI w)]) (fQp (.int (d5_hands P w))) 0 0 (fun _ => False) := by
  refine Met.ofW (cc := cX5_hands) (maxL := 2) (ret := (some .int)) (by decide) rfl ?_
  intro p e s m args below meth c s₁ B hml hv
  obtain ⟨rfl, hP, hG⟩ := hv
  have hK := hG.1
  have hx := B.exec
  have hb := B.bytes
  have hr := B.returns
  have hts := atoms_spec (ws := (ws_ yX5_hands cX5_hands 2 (some .int))) B.pre
  have hts : ∀ w ∈ lw_all, w.before _ s = true := fun w h => hts w (List.mem_cons_of_mem _ h)
  have hown : s.vm.findClass RX5 = some m.cls := findClass_of_methodNamed B.named
  have hlocks := B.notSynchronized
  have hl := lv_entry ([.ref (am 0), .int (nI w)]) (n := 2) (Nat.le_of_ble_eq_true rfl)
  rw [lg_entry_eq]
  generalize (lg_sl ([.ref (am 0), .int (nI w)]) ++ List.replicate (2 - (lg_sl ([.ref (am 0), .int (nI w)])).length) Slot.unset).toArray = ls at hl ⊢
  have hl : lv_has ls 2 [(0, .ref (am 0)), (1, .int (nI w))] := hl
  refine lv_aload_n hx hb dX5_hands_0 rfl (lv_at hl 0 rfl) ?_
  refine f_get hx hb hts in_X5 hown hK hP 0 MO_0 rfl 15 (by decide) (hts _ q1525) (fun x h => h) rfl dX5_hands_1 ?_
  refine lv_iload_n hx hb dX5_hands_4 rfl (lv_at hl 1 rfl) ?_
  refine f_iald hx hb hK hP 13 0 MO_13 rfl w rfl (by omega) (by decide) dX5_hands_5 ?_
  refine f_swCase ((P 4 w) = 1) (fun c_6_0 => ?_) (fun c_6_0 => ?_)
  · refine lv_tableIn (tgt := 36) hx hb dX5_hands_6 (by rw [c_6_0]; decide) (by rw [c_6_0]; decide) (by rw [c_6_0]; rfl) (by decide) ?_
    refine lv_aload_n hx hb dX5_hands_36 rfl (lv_at hl 0 rfl) ?_
    refine f_get hx hb hts in_X5 hown hK hP 0 MO_0 rfl 17 (by decide) (hts _ q1527) (fun x h => h) rfl dX5_hands_37 ?_
    refine lv_iconst (v := 0) hx hb dX5_hands_40 (by decide) ?_
    refine f_iald hx hb hK hP 15 0 MO_15 rfl 0 rfl (by omega) (by decide) dX5_hands_41 ?_
    refine lv_aload_n hx hb dX5_hands_42 rfl (lv_at hl 0 rfl) ?_
    refine f_get hx hb hts in_X5 hown hK hP 0 MO_0 rfl 16 (by decide) (hts _ q1526) (fun x h => h) rfl dX5_hands_43 ?_
    refine lv_iload_n hx hb dX5_hands_46 rfl (lv_at hl 1 rfl) ?_
    refine f_iald hx hb hK hP 14 0 MO_14 rfl w rfl (by omega) (by decide) dX5_hands_47 ?_
    refine lv_imul hx hb dX5_hands_48 ?_
    refine lv_bipush (v := 10) hx hb dX5_hands_49 (by decide) ?_
    refine lv_idiv hx hb dX5_hands_51 (by decide) ?_
    exact f_reti hx hb hr hlocks dX5_hands_52 (by unfold d5_hands; rw [if_pos c_6_0])
  · refine f_swCase ((P 4 w) = 2) (fun c_6_1 => ?_) (fun c_6_1 => ?_)
    · refine lv_tableIn (tgt := 53) hx hb dX5_hands_6 (by rw [c_6_1]; decide) (by rw [c_6_1]; decide) (by rw [c_6_1]; rfl) (by decide) ?_
      refine lv_aload_n hx hb dX5_hands_53 rfl (lv_at hl 0 rfl) ?_
      refine f_get hx hb hts in_X5 hown hK hP 0 MO_0 rfl 17 (by decide) (hts _ q1527) (fun x h => h) rfl dX5_hands_54 ?_
      refine lv_iconst (v := 0) hx hb dX5_hands_57 (by decide) ?_
      refine f_iald hx hb hK hP 15 0 MO_15 rfl 0 rfl (by omega) (by decide) dX5_hands_58 ?_
      exact f_reti hx hb hr hlocks dX5_hands_59 (by unfold d5_hands; rw [if_neg c_6_0, if_pos c_6_1])
    · refine f_swCase ((P 4 w) = 3) (fun c_6_2 => ?_) (fun c_6_2 => ?_)
      · refine lv_tableIn (tgt := 36) hx hb dX5_hands_6 (by rw [c_6_2]; decide) (by rw [c_6_2]; decide) (by rw [c_6_2]; rfl) (by decide) ?_
        refine lv_aload_n hx hb dX5_hands_36 rfl (lv_at hl 0 rfl) ?_
        refine f_get hx hb hts in_X5 hown hK hP 0 MO_0 rfl 17 (by decide) (hts _ q1527) (fun x h => h) rfl dX5_hands_37 ?_
        refine lv_iconst (v := 0) hx hb dX5_hands_40 (by decide) ?_
        refine f_iald hx hb hK hP 15 0 MO_15 rfl 0 rfl (by omega) (by decide) dX5_hands_41 ?_
        refine lv_aload_n hx hb dX5_hands_42 rfl (lv_at hl 0 rfl) ?_
        refine f_get hx hb hts in_X5 hown hK hP 0 MO_0 rfl 16 (by decide) (hts _ q1526) (fun x h => h) rfl dX5_hands_43 ?_
        refine lv_iload_n hx hb dX5_hands_46 rfl (lv_at hl 1 rfl) ?_
        refine f_iald hx hb hK hP 14 0 MO_14 rfl w rfl (by omega) (by decide) dX5_hands_47 ?_
        refine lv_imul hx hb dX5_hands_48 ?_
        refine lv_bipush (v := 10) hx hb dX5_hands_49 (by decide) ?_
        refine lv_idiv hx hb dX5_hands_51 (by decide) ?_
        exact f_reti hx hb hr hlocks dX5_hands_52 (by unfold d5_hands; rw [if_neg c_6_0, if_neg c_6_1, if_pos c_6_2])
      · refine f_swCase ((P 4 w) = 4) (fun c_6_3 => ?_) (fun c_6_3 => ?_)
        · refine lv_tableIn (tgt := 60) hx hb dX5_hands_6 (by rw [c_6_3]; decide) (by rw [c_6_3]; decide) (by rw [c_6_3]; rfl) (by decide) ?_
          refine lv_aload_n hx hb dX5_hands_60 rfl (lv_at hl 0 rfl) ?_
          refine f_get hx hb hts in_X5 hown hK hP 0 MO_0 rfl 17 (by decide) (hts _ q1527) (fun x h => h) rfl dX5_hands_61 ?_
          refine lv_iconst (v := 0) hx hb dX5_hands_64 (by decide) ?_
          refine f_iald hx hb hK hP 15 0 MO_15 rfl 0 rfl (by omega) (by decide) dX5_hands_65 ?_
          refine lv_iconst (v := 2) hx hb dX5_hands_66 (by decide) ?_
          refine lv_idiv hx hb dX5_hands_67 (by decide) ?_
          exact f_reti hx hb hr hlocks dX5_hands_68 (by unfold d5_hands; rw [if_neg c_6_0, if_neg c_6_1, if_neg c_6_2, if_pos c_6_3])
        · refine lv_tableOut (tgt := 69) hx hb dX5_hands_6 (f_swOut (lo := 1) (n := 4) (f_sw4 (lo := 1) c_6_0 c_6_1 c_6_2 c_6_3) rfl) (by decide) ?_
          refine lv_iconst (v := 0) hx hb dX5_hands_69 (by decide) ?_
          exact f_reti hx hb hr hlocks dX5_hands_70 (by unfold d5_hands; rw [if_neg c_6_0, if_neg c_6_1, if_neg c_6_2, if_neg c_6_3])
def d5_tires (P : Nat → Nat → Int32) (w : Nat) (i : Nat) : Int32 := if (P 4 w) = 0 then 1 else (if (P 4 w) = 1 then (((P 0 i) * (P 5 w)) / 4) + 1 else (if (P 4 w) = 2 then 2 * ((((P 0 i) * (P 5 w)) / 4) + 1) else (if (P 4 w) = 3 then (if (P 1 i) = 0 then (((P 0 i) * (P 5 w)) / 4) + 1 else ((((P 0 i) * (P 5 w)) / 4) + 1) / 2) else (if (P 4 w) = 4 then 3 * (P 0 i) else 2 * (P 0 i)))))
set_option maxHeartbeats 4000000 in
set_option maxRecDepth 100000 in
theorem m5_tires (l : Launch) (D : va_G) (dA : Nat → ClassId) (am : Nat → Nat) (P T : Nat → Nat → Int32) (G : Nat → Int32) (L : Nat → Nat → Int64) (kt tr : Option Nat)  (w : Nat) (i : Nat) (h_w : w < 6) (h_i : i < 9) : Met l yX5_tires (ws_ yX5_tires cX5_tires 4 (some .int)) ({ frames := 0, cells := 0, slots := 0, locals := 0 } : Room) (fPc D dA (MO dA am P T G L kt tr) [.ref (am 0), .int (nI w), .int (nI i)]) (fQp (.int (d5_tires P w i))) 0 0 (fun _ => False) := by
  refine Met.ofW (cc := cX5_tires) (maxL := 4) (ret := (some .int)) (by decide) rfl ?_
  intro p e s m args below meth c s₁ B hml hv
  obtain ⟨rfl, hP, hG⟩ := hv
  have hK := hG.1
  have hx := B.exec
  have hb := B.bytes
  have hr := B.returns
  have hts := atoms_spec (ws := (ws_ yX5_tires cX5_tires 4 (some .int))) B.pre
  have hts : ∀ w ∈ lw_all, w.before _ s = true := fun w h => hts w (List.mem_cons_of_mem _ h)
  have hown : s.vm.findClass RX5 = some m.cls := findClass_of_methodNamed B.named
  have hlocks := B.notSynchronized
  have hl := lv_entry ([.ref (am 0), .int (nI w), .int (nI i)]) (n := 4) (Nat.le_of_ble_eq_true rfl)
  rw [lg_entry_eq]
  generalize (lg_sl ([.ref (am 0), .int (nI w), .int (nI i)]) ++ List.replicate (4 - (lg_sl ([.ref (am 0), .int (nI w), .int (nI i)])).length) Slot.unset).toArray = ls at hl ⊢
  have hl : lv_has ls 4 [(0, .ref (am 0)), (1, .int (nI w)), (2, .int (nI i))] := hl
  refine lv_aload_n hx hb dX5_tires_0 rfl (lv_at hl 0 rfl) ?_
  refine f_get hx hb hts in_X5 hown hK hP 0 MO_0 rfl 10 (by decide) (hts _ q1520) (fun x h => h) rfl dX5_tires_1 ?_
  refine lv_iload_n hx hb dX5_tires_4 rfl (lv_at hl 2 rfl) ?_
  refine f_iald hx hb hK hP 9 0 MO_9 rfl i rfl (by omega) (by decide) dX5_tires_5 ?_
  refine lv_aload_n hx hb dX5_tires_6 rfl (lv_at hl 0 rfl) ?_
  refine f_get hx hb hts in_X5 hown hK hP 0 MO_0 rfl 16 (by decide) (hts _ q1526) (fun x h => h) rfl dX5_tires_7 ?_
  refine lv_iload_n hx hb dX5_tires_10 rfl (lv_at hl 1 rfl) ?_
  refine f_iald hx hb hK hP 14 0 MO_14 rfl w rfl (by omega) (by decide) dX5_tires_11 ?_
  refine lv_imul hx hb dX5_tires_12 ?_
  refine lv_iconst (v := 4) hx hb dX5_tires_13 (by decide) ?_
  refine lv_idiv hx hb dX5_tires_14 (by decide) ?_
  refine lv_iconst (v := 1) hx hb dX5_tires_15 (by decide) ?_
  refine lv_iadd hx hb dX5_tires_16 ?_
  refine lv_istore_n (lv' := [(3, .int ((((P 0 i) * (P 5 w)) / 4) + 1)), (0, .ref (am 0)), (1, .int (nI w)), (2, .int (nI i))]) hx hb dX5_tires_17 rfl hl (by decide) rfl (fun ls hl => ?_)
  refine lv_aload_n hx hb dX5_tires_18 rfl (lv_at hl 1 rfl) ?_
  refine f_get hx hb hts in_X5 hown hK hP 0 MO_0 rfl 15 (by decide) (hts _ q1525) (fun x h => h) rfl dX5_tires_19 ?_
  refine lv_iload_n hx hb dX5_tires_22 rfl (lv_at hl 2 rfl) ?_
  refine f_iald hx hb hK hP 13 0 MO_13 rfl w rfl (by omega) (by decide) dX5_tires_23 ?_
  refine f_swCase ((P 4 w) = 0) (fun c_24_0 => ?_) (fun c_24_0 => ?_)
  · refine lv_tableIn (tgt := 60) hx hb dX5_tires_24 (by rw [c_24_0]; decide) (by rw [c_24_0]; decide) (by rw [c_24_0]; rfl) (by decide) ?_
    refine lv_iconst (v := 1) hx hb dX5_tires_60 (by decide) ?_
    exact f_reti hx hb hr hlocks dX5_tires_61 (by unfold d5_tires; rw [if_pos c_24_0])
  · refine f_swCase ((P 4 w) = 1) (fun c_24_1 => ?_) (fun c_24_1 => ?_)
    · refine lv_tableIn (tgt := 62) hx hb dX5_tires_24 (by rw [c_24_1]; decide) (by rw [c_24_1]; decide) (by rw [c_24_1]; rfl) (by decide) ?_
      refine lv_iload_n hx hb dX5_tires_62 rfl (lv_at hl 0 rfl) ?_
      exact f_reti hx hb hr hlocks dX5_tires_63 (by unfold d5_tires; rw [if_neg c_24_0, if_pos c_24_1])
    · refine f_swCase ((P 4 w) = 2) (fun c_24_2 => ?_) (fun c_24_2 => ?_)
      · refine lv_tableIn (tgt := 64) hx hb dX5_tires_24 (by rw [c_24_2]; decide) (by rw [c_24_2]; decide) (by rw [c_24_2]; rfl) (by decide) ?_
        refine lv_iconst (v := 2) hx hb dX5_tires_64 (by decide) ?_
        refine lv_iload_n hx hb dX5_tires_65 rfl (lv_at hl 0 rfl) ?_
        refine lv_imul hx hb dX5_tires_66 ?_
        exact f_reti hx hb hr hlocks dX5_tires_67 (by unfold d5_tires; rw [if_neg c_24_0, if_neg c_24_1, if_pos c_24_2])
      · refine f_swCase ((P 4 w) = 3) (fun c_24_3 => ?_) (fun c_24_3 => ?_)
        · refine lv_tableIn (tgt := 68) hx hb dX5_tires_24 (by rw [c_24_3]; decide) (by rw [c_24_3]; decide) (by rw [c_24_3]; rfl) (by decide) ?_
          refine lv_aload_n hx hb dX5_tires_68 rfl (lv_at hl 1 rfl) ?_
          refine f_get hx hb hts in_X5 hown hK hP 0 MO_0 rfl 11 (by decide) (hts _ q1521) (fun x h => h) rfl dX5_tires_69 ?_
          refine lv_iload_n hx hb dX5_tires_72 rfl (lv_at hl 3 rfl) ?_
          refine f_zald hx hb hK hP 10 4 MO_10 rfl i rfl (by omega) (by decide) dX5_tires_73 ?_
          refine lv_if_eq (tgt := 83) hx hb dX5_tires_74 (by decide) (fun c_74 => ?_) (fun c_74 => ?_)
          · refine lv_iload_n hx hb dX5_tires_83 rfl (lv_at hl 0 rfl) ?_
            exact f_reti hx hb hr hlocks dX5_tires_84 (by unfold d5_tires; rw [if_neg c_24_0, if_neg c_24_1, if_neg c_24_2, if_pos c_24_3, if_pos c_74])
          · refine lv_iload_n hx hb dX5_tires_77 rfl (lv_at hl 0 rfl) ?_
            refine lv_iconst (v := 2) hx hb dX5_tires_78 (by decide) ?_
            refine lv_idiv hx hb dX5_tires_79 (by decide) ?_
            refine lv_goto (tgt := 84) hx hb dX5_tires_80 (by decide) ?_
            exact f_reti hx hb hr hlocks dX5_tires_84 (by unfold d5_tires; rw [if_neg c_24_0, if_neg c_24_1, if_neg c_24_2, if_pos c_24_3, if_neg c_74])
        · refine f_swCase ((P 4 w) = 4) (fun c_24_4 => ?_) (fun c_24_4 => ?_)
          · refine lv_tableIn (tgt := 85) hx hb dX5_tires_24 (by rw [c_24_4]; decide) (by rw [c_24_4]; decide) (by rw [c_24_4]; rfl) (by decide) ?_
            refine lv_iconst (v := 3) hx hb dX5_tires_85 (by decide) ?_
            refine lv_aload_n hx hb dX5_tires_86 rfl (lv_at hl 1 rfl) ?_
            refine f_get hx hb hts in_X5 hown hK hP 0 MO_0 rfl 10 (by decide) (hts _ q1520) (fun x h => h) rfl dX5_tires_87 ?_
            refine lv_iload_n hx hb dX5_tires_90 rfl (lv_at hl 3 rfl) ?_
            refine f_iald hx hb hK hP 9 0 MO_9 rfl i rfl (by omega) (by decide) dX5_tires_91 ?_
            refine lv_imul hx hb dX5_tires_92 ?_
            exact f_reti hx hb hr hlocks dX5_tires_93 (by unfold d5_tires; rw [if_neg c_24_0, if_neg c_24_1, if_neg c_24_2, if_neg c_24_3, if_pos c_24_4])
          · refine lv_tableOut (tgt := 94) hx hb dX5_tires_24 (f_swOut (lo := 0) (n := 5) (f_sw5 (lo := 0) c_24_0 c_24_1 c_24_2 c_24_3 c_24_4) rfl) (by decide) ?_
            refine lv_iconst (v := 2) hx hb dX5_tires_94 (by decide) ?_
            refine lv_aload_n hx hb dX5_tires_95 rfl (lv_at hl 1 rfl) ?_
            refine f_get hx hb hts in_X5 hown hK hP 0 MO_0 rfl 10 (by decide) (hts _ q1520) (fun x h => h) rfl dX5_tires_96 ?_
            refine lv_iload_n hx hb dX5_tires_99 rfl (lv_at hl 3 rfl) ?_
            refine f_iald hx hb hK hP 9 0 MO_9 rfl i rfl (by omega) (by decide) dX5_tires_100 ?_
            refine lv_imul hx hb dX5_tires_101 ?_
            exact f_reti hx hb hr hlocks dX5_tires_102 (by unfold d5_tires; rw [if_neg c_24_0, if_neg c_24_1, if_neg c_24_2, if_neg c_24_3, if_neg c_24_4])
def d5_slips (P : Nat → Nat → Int32) (w : Nat) (i : Nat) : Int32 := if (P 3 i) = 0 then (if (P 4 w) = 0 then (P 0 i) + 0 else (if (P 4 w) = 1 then ((P 0 i) + 0) / 2 else (if (P 4 w) = 2 then (((P 0 i) + 0) / 2) + 5 else (if (P 4 w) = 3 then (if (d5_isRailed P w i) = 0 then ((P 0 i) + 0) / 2 else (((P 0 i) + 0) / 2) / 3) else (if (P 4 w) = 4 then 0 else 2 * ((((P 0 i) + 0) / 2) + 5)))))) else (if (P 4 w) = 0 then (P 0 i) + 10 else (if (P 4 w) = 1 then ((P 0 i) + 10) / 2 else (if (P 4 w) = 2 then (((P 0 i) + 10) / 2) + 5 else (if (P 4 w) = 3 then (if (d5_isRailed P w i) = 0 then ((P 0 i) + 10) / 2 else (((P 0 i) + 10) / 2) / 3) else (if (P 4 w) = 4 then 0 else 2 * ((((P 0 i) + 10) / 2) + 5))))))
set_option maxHeartbeats 4000000 in
set_option maxRecDepth 100000 in
theorem m5_slips (l : Launch) (D : va_G) (dA : Nat → ClassId) (am : Nat → Nat) (P T : Nat → Nat → Int32) (G : Nat → Int32) (L : Nat → Nat → Int64) (kt tr : Option Nat)  (w : Nat) (i : Nat) (h_w : w < 6) (h_i : i < 9) : Met l yX5_slips (ws_ yX5_slips cX5_slips 5 (some .int)) ({ frames := 1, cells := 0, slots := 0, locals := 22 } : Room) (fPc D dA (MO dA am P T G L kt tr) [.ref (am 0), .int (nI w), .int (nI i)]) (fQp (.int (d5_slips P w i))) 0 0 (fun _ => False) := by
  refine Met.ofW (cc := cX5_slips) (maxL := 5) (ret := (some .int)) (by decide) rfl ?_
  intro p e s m args below meth c s₁ B hml hv
  obtain ⟨rfl, hP, hG⟩ := hv
  have hK := hG.1
  have hx := B.exec
  have hb := B.bytes
  have hr := B.returns
  have hts := atoms_spec (ws := (ws_ yX5_slips cX5_slips 5 (some .int))) B.pre
  have hts : ∀ w ∈ lw_all, w.before _ s = true := fun w h => hts w (List.mem_cons_of_mem _ h)
  have hown : s.vm.findClass RX5 = some m.cls := findClass_of_methodNamed B.named
  have hlocks := B.notSynchronized
  have hl := lv_entry ([.ref (am 0), .int (nI w), .int (nI i)]) (n := 5) (Nat.le_of_ble_eq_true rfl)
  rw [lg_entry_eq]
  generalize (lg_sl ([.ref (am 0), .int (nI w), .int (nI i)]) ++ List.replicate (5 - (lg_sl ([.ref (am 0), .int (nI w), .int (nI i)])).length) Slot.unset).toArray = ls at hl ⊢
  have hl : lv_has ls 5 [(0, .ref (am 0)), (1, .int (nI w)), (2, .int (nI i))] := hl
  refine lv_aload_n hx hb dX5_slips_0 rfl (lv_at hl 0 rfl) ?_
  refine f_get hx hb hts in_X5 hown hK hP 0 MO_0 rfl 10 (by decide) (hts _ q1520) (fun x h => h) rfl dX5_slips_1 ?_
  refine lv_iload_n hx hb dX5_slips_4 rfl (lv_at hl 2 rfl) ?_
  refine f_iald hx hb hK hP 9 0 MO_9 rfl i rfl (by omega) (by decide) dX5_slips_5 ?_
  refine lv_aload_n hx hb dX5_slips_6 rfl (lv_at hl 0 rfl) ?_
  refine f_get hx hb hts in_X5 hown hK hP 0 MO_0 rfl 13 (by decide) (hts _ q1523) (fun x h => h) rfl dX5_slips_7 ?_
  refine lv_iload_n hx hb dX5_slips_10 rfl (lv_at hl 2 rfl) ?_
  refine f_zald hx hb hK hP 12 4 MO_12 rfl i rfl (by omega) (by decide) dX5_slips_11 ?_
  refine lv_if_eq (tgt := 20) hx hb dX5_slips_12 (by decide) (fun c_12 => ?_) (fun c_12 => ?_)
  · refine lv_iconst (v := 0) hx hb dX5_slips_20 (by decide) ?_
    refine lv_iadd hx hb dX5_slips_21 ?_
    refine lv_istore_n (lv' := [(3, .int ((P 0 i) + 0)), (0, .ref (am 0)), (1, .int (nI w)), (2, .int (nI i))]) hx hb dX5_slips_22 rfl hl (by decide) rfl (fun ls hl => ?_)
    refine lv_iload_n hx hb dX5_slips_23 rfl (lv_at hl 0 rfl) ?_
    refine lv_iconst (v := 2) hx hb dX5_slips_24 (by decide) ?_
    refine lv_idiv hx hb dX5_slips_25 (by decide) ?_
    refine lv_istore (lv' := [(4, .int (((P 0 i) + 0) / 2)), (3, .int ((P 0 i) + 0)), (0, .ref (am 0)), (1, .int (nI w)), (2, .int (nI i))]) hx hb dX5_slips_26 hl (by decide) rfl (fun ls hl => ?_)
    refine lv_aload_n hx hb dX5_slips_28 rfl (lv_at hl 2 rfl) ?_
    refine f_get hx hb hts in_X5 hown hK hP 0 MO_0 rfl 15 (by decide) (hts _ q1525) (fun x h => h) rfl dX5_slips_29 ?_
    refine lv_iload_n hx hb dX5_slips_32 rfl (lv_at hl 3 rfl) ?_
    refine f_iald hx hb hK hP 13 0 MO_13 rfl w rfl (by omega) (by decide) dX5_slips_33 ?_
    refine f_swCase ((P 4 w) = 0) (fun c_34_0 => ?_) (fun c_34_0 => ?_)
    · refine lv_tableIn (tgt := 68) hx hb dX5_slips_34 (by rw [c_34_0]; decide) (by rw [c_34_0]; decide) (by rw [c_34_0]; rfl) (by decide) ?_
      refine lv_iload_n hx hb dX5_slips_68 rfl (lv_at hl 1 rfl) ?_
      exact f_reti hx hb hr hlocks dX5_slips_69 (by unfold d5_slips; rw [if_pos c_12, if_pos c_34_0])
    · refine f_swCase ((P 4 w) = 1) (fun c_34_1 => ?_) (fun c_34_1 => ?_)
      · refine lv_tableIn (tgt := 70) hx hb dX5_slips_34 (by rw [c_34_1]; decide) (by rw [c_34_1]; decide) (by rw [c_34_1]; rfl) (by decide) ?_
        refine lv_iload hx hb dX5_slips_70 (lv_at hl 0 rfl) ?_
        exact f_reti hx hb hr hlocks dX5_slips_72 (by unfold d5_slips; rw [if_pos c_12, if_neg c_34_0, if_pos c_34_1])
      · refine f_swCase ((P 4 w) = 2) (fun c_34_2 => ?_) (fun c_34_2 => ?_)
        · refine lv_tableIn (tgt := 73) hx hb dX5_slips_34 (by rw [c_34_2]; decide) (by rw [c_34_2]; decide) (by rw [c_34_2]; rfl) (by decide) ?_
          refine lv_iload hx hb dX5_slips_73 (lv_at hl 0 rfl) ?_
          refine lv_iconst (v := 5) hx hb dX5_slips_75 (by decide) ?_
          refine lv_iadd hx hb dX5_slips_76 ?_
          exact f_reti hx hb hr hlocks dX5_slips_77 (by unfold d5_slips; rw [if_pos c_12, if_neg c_34_0, if_neg c_34_1, if_pos c_34_2])
        · refine f_swCase ((P 4 w) = 3) (fun c_34_3 => ?_) (fun c_34_3 => ?_)
          · refine lv_tableIn (tgt := 78) hx hb dX5_slips_34 (by rw [c_34_3]; decide) (by rw [c_34_3]; decide) (by rw [c_34_3]; rfl) (by decide) ?_
            refine lv_aload_n hx hb dX5_slips_78 rfl (lv_at hl 2 rfl) ?_
            refine lv_iload_n hx hb dX5_slips_79 rfl (lv_at hl 3 rfl) ?_
            refine lv_iload_n hx hb dX5_slips_80 rfl (lv_at hl 4 rfl) ?_
            refine f_pV hx hb hml hown hts (m5_isRailed l D dA am P T G L kt tr  w i (by omega) (by omega)) (cwV 2 hts (lw_V q1676 q1678 qs36 q79 q1679) rfl rfl rfl (by decide +kernel) ⟨Nat.le_of_ble_eq_true rfl, Nat.le_of_ble_eq_true rfl⟩) hG hP f_id MO_0 rfl rfl hl.1 rfl (Nat.le_of_ble_eq_true rfl) dX5_slips_81 ⟨Nat.zero_le _, Nat.zero_le _⟩ ?_
            refine lv_if_eq (tgt := 94) hx hb dX5_slips_84 (by decide) (fun c_84 => ?_) (fun c_84 => ?_)
            · refine lv_iload hx hb dX5_slips_94 (lv_at hl 0 rfl) ?_
              exact f_reti hx hb hr hlocks dX5_slips_96 (by unfold d5_slips; rw [if_pos c_12, if_neg c_34_0, if_neg c_34_1, if_neg c_34_2, if_pos c_34_3, if_pos c_84])
            · refine lv_iload hx hb dX5_slips_87 (lv_at hl 0 rfl) ?_
              refine lv_iconst (v := 3) hx hb dX5_slips_89 (by decide) ?_
              refine lv_idiv hx hb dX5_slips_90 (by decide) ?_
              refine lv_goto (tgt := 96) hx hb dX5_slips_91 (by decide) ?_
              exact f_reti hx hb hr hlocks dX5_slips_96 (by unfold d5_slips; rw [if_pos c_12, if_neg c_34_0, if_neg c_34_1, if_neg c_34_2, if_pos c_34_3, if_neg c_84])
          · refine f_swCase ((P 4 w) = 4) (fun c_34_4 => ?_) (fun c_34_4 => ?_)
            · refine lv_tableIn (tgt := 97) hx hb dX5_slips_34 (by rw [c_34_4]; decide) (by rw [c_34_4]; decide) (by rw [c_34_4]; rfl) (by decide) ?_
              refine lv_iconst (v := 0) hx hb dX5_slips_97 (by decide) ?_
              exact f_reti hx hb hr hlocks dX5_slips_98 (by unfold d5_slips; rw [if_pos c_12, if_neg c_34_0, if_neg c_34_1, if_neg c_34_2, if_neg c_34_3, if_pos c_34_4])
            · refine lv_tableOut (tgt := 99) hx hb dX5_slips_34 (f_swOut (lo := 0) (n := 5) (f_sw5 (lo := 0) c_34_0 c_34_1 c_34_2 c_34_3 c_34_4) rfl) (by decide) ?_
              refine lv_iconst (v := 2) hx hb dX5_slips_99 (by decide) ?_
              refine lv_iload hx hb dX5_slips_100 (lv_at hl 0 rfl) ?_
              refine lv_iconst (v := 5) hx hb dX5_slips_102 (by decide) ?_
              refine lv_iadd hx hb dX5_slips_103 ?_
              refine lv_imul hx hb dX5_slips_104 ?_
              exact f_reti hx hb hr hlocks dX5_slips_105 (by unfold d5_slips; rw [if_pos c_12, if_neg c_34_0, if_neg c_34_1, if_neg c_34_2, if_neg c_34_3, if_neg c_34_4])
  · refine lv_bipush (v := 10) hx hb dX5_slips_15 (by decide) ?_
    refine lv_goto (tgt := 21) hx hb dX5_slips_17 (by decide) ?_
    refine lv_iadd hx hb dX5_slips_21 ?_
    refine lv_istore_n (lv' := [(3, .int ((P 0 i) + 10)), (0, .ref (am 0)), (1, .int (nI w)), (2, .int (nI i))]) hx hb dX5_slips_22 rfl hl (by decide) rfl (fun ls hl => ?_)
    refine lv_iload_n hx hb dX5_slips_23 rfl (lv_at hl 0 rfl) ?_
    refine lv_iconst (v := 2) hx hb dX5_slips_24 (by decide) ?_
    refine lv_idiv hx hb dX5_slips_25 (by decide) ?_
    refine lv_istore (lv' := [(4, .int (((P 0 i) + 10) / 2)), (3, .int ((P 0 i) + 10)), (0, .ref (am 0)), (1, .int (nI w)), (2, .int (nI i))]) hx hb dX5_slips_26 hl (by decide) rfl (fun ls hl => ?_)
    refine lv_aload_n hx hb dX5_slips_28 rfl (lv_at hl 2 rfl) ?_
    refine f_get hx hb hts in_X5 hown hK hP 0 MO_0 rfl 15 (by decide) (hts _ q1525) (fun x h => h) rfl dX5_slips_29 ?_
    refine lv_iload_n hx hb dX5_slips_32 rfl (lv_at hl 3 rfl) ?_
    refine f_iald hx hb hK hP 13 0 MO_13 rfl w rfl (by omega) (by decide) dX5_slips_33 ?_
    refine f_swCase ((P 4 w) = 0) (fun c_34_0 => ?_) (fun c_34_0 => ?_)
    · refine lv_tableIn (tgt := 68) hx hb dX5_slips_34 (by rw [c_34_0]; decide) (by rw [c_34_0]; decide) (by rw [c_34_0]; rfl) (by decide) ?_
      refine lv_iload_n hx hb dX5_slips_68 rfl (lv_at hl 1 rfl) ?_
      exact f_reti hx hb hr hlocks dX5_slips_69 (by unfold d5_slips; rw [if_neg c_12, if_pos c_34_0])
    · refine f_swCase ((P 4 w) = 1) (fun c_34_1 => ?_) (fun c_34_1 => ?_)
      · refine lv_tableIn (tgt := 70) hx hb dX5_slips_34 (by rw [c_34_1]; decide) (by rw [c_34_1]; decide) (by rw [c_34_1]; rfl) (by decide) ?_
        refine lv_iload hx hb dX5_slips_70 (lv_at hl 0 rfl) ?_
        exact f_reti hx hb hr hlocks dX5_slips_72 (by unfold d5_slips; rw [if_neg c_12, if_neg c_34_0, if_pos c_34_1])
      · refine f_swCase ((P 4 w) = 2) (fun c_34_2 => ?_) (fun c_34_2 => ?_)
        · refine lv_tableIn (tgt := 73) hx hb dX5_slips_34 (by rw [c_34_2]; decide) (by rw [c_34_2]; decide) (by rw [c_34_2]; rfl) (by decide) ?_
          refine lv_iload hx hb dX5_slips_73 (lv_at hl 0 rfl) ?_
          refine lv_iconst (v := 5) hx hb dX5_slips_75 (by decide) ?_
          refine lv_iadd hx hb dX5_slips_76 ?_
          exact f_reti hx hb hr hlocks dX5_slips_77 (by unfold d5_slips; rw [if_neg c_12, if_neg c_34_0, if_neg c_34_1, if_pos c_34_2])
        · refine f_swCase ((P 4 w) = 3) (fun c_34_3 => ?_) (fun c_34_3 => ?_)
          · refine lv_tableIn (tgt := 78) hx hb dX5_slips_34 (by rw [c_34_3]; decide) (by rw [c_34_3]; decide) (by rw [c_34_3]; rfl) (by decide) ?_
            refine lv_aload_n hx hb dX5_slips_78 rfl (lv_at hl 2 rfl) ?_
            refine lv_iload_n hx hb dX5_slips_79 rfl (lv_at hl 3 rfl) ?_
            refine lv_iload_n hx hb dX5_slips_80 rfl (lv_at hl 4 rfl) ?_
            refine f_pV hx hb hml hown hts (m5_isRailed l D dA am P T G L kt tr  w i (by omega) (by omega)) (cwV 2 hts (lw_V q1676 q1678 qs36 q79 q1679) rfl rfl rfl (by decide +kernel) ⟨Nat.le_of_ble_eq_true rfl, Nat.le_of_ble_eq_true rfl⟩) hG hP f_id MO_0 rfl rfl hl.1 rfl (Nat.le_of_ble_eq_true rfl) dX5_slips_81 ⟨Nat.zero_le _, Nat.zero_le _⟩ ?_
            refine lv_if_eq (tgt := 94) hx hb dX5_slips_84 (by decide) (fun c_84 => ?_) (fun c_84 => ?_)
            · refine lv_iload hx hb dX5_slips_94 (lv_at hl 0 rfl) ?_
              exact f_reti hx hb hr hlocks dX5_slips_96 (by unfold d5_slips; rw [if_neg c_12, if_neg c_34_0, if_neg c_34_1, if_neg c_34_2, if_pos c_34_3, if_pos c_84])
            · refine lv_iload hx hb dX5_slips_87 (lv_at hl 0 rfl) ?_
              refine lv_iconst (v := 3) hx hb dX5_slips_89 (by decide) ?_
              refine lv_idiv hx hb dX5_slips_90 (by decide) ?_
              refine lv_goto (tgt := 96) hx hb dX5_slips_91 (by decide) ?_
              exact f_reti hx hb hr hlocks dX5_slips_96 (by unfold d5_slips; rw [if_neg c_12, if_neg c_34_0, if_neg c_34_1, if_neg c_34_2, if_pos c_34_3, if_neg c_84])
          · refine f_swCase ((P 4 w) = 4) (fun c_34_4 => ?_) (fun c_34_4 => ?_)
            · refine lv_tableIn (tgt := 97) hx hb dX5_slips_34 (by rw [c_34_4]; decide) (by rw [c_34_4]; decide) (by rw [c_34_4]; rfl) (by decide) ?_
              refine lv_iconst (v := 0) hx hb dX5_slips_97 (by decide) ?_
              exact f_reti hx hb hr hlocks dX5_slips_98 (by unfold d5_slips; rw [if_neg c_12, if_neg c_34_0, if_neg c_34_1, if_neg c_34_2, if_neg c_34_3, if_pos c_34_4])
            · refine lv_tableOut (tgt := 99) hx hb dX5_slips_34 (f_swOut (lo := 0) (n := 5) (f_sw5 (lo := 0) c_34_0 c_34_1 c_34_2 c_34_3 c_34_4) rfl) (by decide) ?_
              refine lv_iconst (v := 2) hx hb dX5_slips_99 (by decide) ?_
              refine lv_iload hx hb dX5_slips_100 (lv_at hl 0 rfl) ?_
              refine lv_iconst (v := 5) hx hb dX5_slips_102 (by decide) ?_
              refine lv_iadd hx hb dX5_slips_103 ?_
              refine lv_imul hx hb dX5_slips_104 ?_
              exact f_reti hx hb hr hlocks dX5_slips_105 (by unfold d5_slips; rw [if_neg c_12, if_neg c_34_0, if_neg c_34_1, if_neg c_34_2, if_neg c_34_3, if_neg c_34_4])
def d5_canBe (P : Nat → Nat → Int32) (w : Nat) (i : Nat) (x : Int32) : Int32 := if (P 6 1) < (d5_load P w i) then 0 else (if x < (d5_tires P w i) then 0 else 1)
set_option maxHeartbeats 4000000 in
set_option maxRecDepth 100000 in
theorem m5_canBe (l : Launch) (D : va_G) (dA : Nat → ClassId) (am : Nat → Nat) (P T : Nat → Nat → Int32) (G : Nat → Int32) (L : Nat → Nat → Int64) (kt tr : Option Nat)  (w : Nat) (i : Nat) (x : Int32) (h_w : w < 6) (h_i : i < 9) : Met l yX5_canBe (ws_ yX5_canBe cX5_canBe 4 (some .boolean)) ({ frames := 1, cells := 0, slots := 0, locals := 23 } : Room) (fPc D dA (MO dA am P T G L kt tr) [.ref (am 0), .int (nI w), .int (nI i), .int x]) (fQp (.int (d5_canBe P w i x))) 0 0 (fun _ => False) := by
  refine Met.ofW (cc := cX5_canBe) (maxL := 4) (ret := (some .boolean)) (by decide) rfl ?_
  intro p e s m args below meth c s₁ B hml hv
  obtain ⟨rfl, hP, hG⟩ := hv
  have hK := hG.1
  have hx := B.exec
  have hb := B.bytes
  have hr := B.returns
  have hts := atoms_spec (ws := (ws_ yX5_canBe cX5_canBe 4 (some .boolean))) B.pre
  have hts : ∀ w ∈ lw_all, w.before _ s = true := fun w h => hts w (List.mem_cons_of_mem _ h)
  have hown : s.vm.findClass RX5 = some m.cls := findClass_of_methodNamed B.named
  have hlocks := B.notSynchronized
  have hl := lv_entry ([.ref (am 0), .int (nI w), .int (nI i), .int x]) (n := 4) (Nat.le_of_ble_eq_true rfl)
  rw [lg_entry_eq]
  generalize (lg_sl ([.ref (am 0), .int (nI w), .int (nI i), .int x]) ++ List.replicate (4 - (lg_sl ([.ref (am 0), .int (nI w), .int (nI i), .int x])).length) Slot.unset).toArray = ls at hl ⊢
  have hl : lv_has ls 4 [(0, .ref (am 0)), (1, .int (nI w)), (2, .int (nI i)), (3, .int x)] := hl
  refine lv_aload_n hx hb dX5_canBe_0 rfl (lv_at hl 0 rfl) ?_
  refine lv_iload_n hx hb dX5_canBe_1 rfl (lv_at hl 1 rfl) ?_
  refine lv_iload_n hx hb dX5_canBe_2 rfl (lv_at hl 2 rfl) ?_
  refine f_pV hx hb hml hown hts (m5_load l D dA am P T G L kt tr  w i (by omega) (by omega)) (cwV 2 hts (lw_V q1684 q1686 qs38 q79 q1687) rfl rfl rfl (by decide +kernel) ⟨Nat.le_of_ble_eq_true rfl, Nat.le_of_ble_eq_true rfl⟩) hG hP f_id MO_0 rfl rfl hl.1 rfl (Nat.le_of_ble_eq_true rfl) dX5_canBe_3 ⟨Nat.zero_le _, Nat.zero_le _⟩ ?_
  refine lv_aload_n hx hb dX5_canBe_6 rfl (lv_at hl 0 rfl) ?_
  refine f_get hx hb hts in_X5 hown hK hP 0 MO_0 rfl 17 (by decide) (hts _ q1527) (fun x h => h) rfl dX5_canBe_7 ?_
  refine lv_iconst (v := 1) hx hb dX5_canBe_10 (by decide) ?_
  refine f_iald hx hb hK hP 15 0 MO_15 rfl 1 rfl (by omega) (by decide) dX5_canBe_11 ?_
  refine lv_icmp_gt (tgt := 29) hx hb dX5_canBe_12 (by decide) (fun c_12 => ?_) (fun c_12 => ?_)
  · refine lv_iconst (v := 0) hx hb dX5_canBe_29 (by decide) ?_
    exact f_retz hx hb hr hlocks dX5_canBe_30 rfl (by unfold d5_canBe; rw [if_pos c_12])
  · refine lv_aload_n hx hb dX5_canBe_15 rfl (lv_at hl 0 rfl) ?_
    refine lv_iload_n hx hb dX5_canBe_16 rfl (lv_at hl 1 rfl) ?_
    refine lv_iload_n hx hb dX5_canBe_17 rfl (lv_at hl 2 rfl) ?_
    refine f_pV hx hb hml hown hts (m5_tires l D dA am P T G L kt tr  w i (by omega) (by omega)) (cwV 2 hts (lw_V q1680 q1682 qs37 q79 q1683) rfl rfl rfl (by decide +kernel) ⟨Nat.le_of_ble_eq_true rfl, Nat.le_of_ble_eq_true rfl⟩) hG hP f_id MO_0 rfl rfl hl.1 rfl (Nat.le_of_ble_eq_true rfl) dX5_canBe_18 ⟨Nat.zero_le _, Nat.zero_le _⟩ ?_
    refine lv_iload_n hx hb dX5_canBe_21 rfl (lv_at hl 3 rfl) ?_
    refine lv_icmp_gt (tgt := 29) hx hb dX5_canBe_22 (by decide) (fun c_22 => ?_) (fun c_22 => ?_)
    · refine lv_iconst (v := 0) hx hb dX5_canBe_29 (by decide) ?_
      exact f_retz hx hb hr hlocks dX5_canBe_30 rfl (by unfold d5_canBe; rw [if_neg c_12, if_pos c_22])
    · refine lv_iconst (v := 1) hx hb dX5_canBe_25 (by decide) ?_
      refine lv_goto (tgt := 30) hx hb dX5_canBe_26 (by decide) ?_
      exact f_retz hx hb hr hlocks dX5_canBe_30 rfl (by unfold d5_canBe; rw [if_neg c_12, if_neg c_22])
theorem z5_canBe {P : Nat → Nat → Int32} {w : Nat} {i : Nat} {x : Int32} : narrow .boolean (.int (d5_canBe P w i x)) = .int (d5_canBe P w i x) := by
  unfold d5_canBe
  split
  · first | rfl | (dsimp only; rfl)
  · split
    · first | rfl | (dsimp only; rfl)
    · first | rfl | (dsimp only; rfl)
def d5_armsBehind (P : Nat → Nat → Int32) (w : Nat) (i : Nat) (x : Int32) : Int32 := if (P 2 i) = 0 then x - (d5_tires P w i) else P 6 2
set_option maxHeartbeats 4000000 in
set_option maxRecDepth 100000 in
theorem m5_armsBehind (l : Launch) (D : va_G) (dA : Nat → ClassId) (am : Nat → Nat) (P T : Nat → Nat → Int32) (G : Nat → Int32) (L : Nat → Nat → Int64) (kt tr : Option Nat)  (w : Nat) (i : Nat) (x : Int32) (h_w : w < 6) (h_i : i < 9) : Met l yX5_armsBehind (ws_ yX5_armsBehind cX5_armsBehind 4 (some .int)) ({ frames := 1, cells := 0, slots := 0, locals := 23 } : Room) (fPc D dA (MO dA am P T G L kt tr) [.ref (am 0), .int (nI w), .int (nI i), .int x]) (fQp (.int (d5_armsBehind P w i x))) 0 0 (fun _ => False) := by
  refine Met.ofW (cc := cX5_armsBehind) (maxL := 4) (ret := (some .int)) (by decide) rfl ?_
  intro p e s m args below meth c s₁ B hml hv
  obtain ⟨rfl, hP, hG⟩ := hv
  have hK := hG.1
  have hx := B.exec
  have hb := B.bytes
  have hr := B.returns
  have hts := atoms_spec (ws := (ws_ yX5_armsBehind cX5_armsBehind 4 (some .int))) B.pre
  have hts : ∀ w ∈ lw_all, w.before _ s = true := fun w h => hts w (List.mem_cons_of_mem _ h)
  have hown : s.vm.findClass RX5 = some m.cls := findClass_of_methodNamed B.named
  have hlocks := B.notSynchronized
  have hl := lv_entry ([.ref (am 0), .int (nI w), .int (nI i), .int x]) (n := 4) (Nat.le_of_ble_eq_true rfl)
  rw [lg_entry_eq]
  generalize (lg_sl ([.ref (am 0), .int (nI w), .int (nI i), .int x]) ++ List.replicate (4 - (lg_sl ([.ref (am 0), .int (nI w), .int (nI i), .int x])).length) Slot.unset).toArray = ls at hl ⊢
  have hl : lv_has ls 4 [(0, .ref (am 0)), (1, .int (nI w)), (2, .int (nI i)), (3, .int x)] := hl
  refine lv_aload_n hx hb dX5_armsBehind_0 rfl (lv_at hl 0 rfl) ?_
  refine f_get hx hb hts in_X5 hown hK hP 0 MO_0 rfl 12 (by decide) (hts _ q1522) (fun x h => h) rfl dX5_armsBehind_1 ?_
  refine lv_iload_n hx hb dX5_armsBehind_4 rfl (lv_at hl 2 rfl) ?_
  refine f_zald hx hb hK hP 11 4 MO_11 rfl i rfl (by omega) (by decide) dX5_armsBehind_5 ?_
  refine lv_if_eq (tgt := 18) hx hb dX5_armsBehind_6 (by decide) (fun c_6 => ?_) (fun c_6 => ?_)
  · refine lv_iload_n hx hb dX5_armsBehind_18 rfl (lv_at hl 3 rfl) ?_
    refine lv_aload_n hx hb dX5_armsBehind_19 rfl (lv_at hl 0 rfl) ?_
    refine lv_iload_n hx hb dX5_armsBehind_20 rfl (lv_at hl 1 rfl) ?_
    refine lv_iload_n hx hb dX5_armsBehind_21 rfl (lv_at hl 2 rfl) ?_
    refine f_pV hx hb hml hown hts (m5_tires l D dA am P T G L kt tr  w i (by omega) (by omega)) (cwV 2 hts (lw_V q1680 q1682 qs37 q79 q1683) rfl rfl rfl (by decide +kernel) ⟨Nat.le_of_ble_eq_true rfl, Nat.le_of_ble_eq_true rfl⟩) hG hP f_id MO_0 rfl rfl hl.1 rfl (Nat.le_of_ble_eq_true rfl) dX5_armsBehind_22 ⟨Nat.zero_le _, Nat.zero_le _⟩ ?_
    refine lv_isub hx hb dX5_armsBehind_25 ?_
    exact f_reti hx hb hr hlocks dX5_armsBehind_26 (by unfold d5_armsBehind; rw [if_pos c_6])
  · refine lv_aload_n hx hb dX5_armsBehind_9 rfl (lv_at hl 0 rfl) ?_
    refine f_get hx hb hts in_X5 hown hK hP 0 MO_0 rfl 17 (by decide) (hts _ q1527) (fun x h => h) rfl dX5_armsBehind_10 ?_
    refine lv_iconst (v := 2) hx hb dX5_armsBehind_13 (by decide) ?_
    refine f_iald hx hb hK hP 15 0 MO_15 rfl 2 rfl (by omega) (by decide) dX5_armsBehind_14 ?_
    refine lv_goto (tgt := 26) hx hb dX5_armsBehind_15 (by decide) ?_
    exact f_reti hx hb hr hlocks dX5_armsBehind_26 (by unfold d5_armsBehind; rw [if_neg c_6])
def d5_leastOf (P : Nat → Nat → Int32) (x : Int32) : Int32 := if x = 0 then 30 else (if x = 5 then P 6 4 else 0)
set_option maxHeartbeats 4000000 in
set_option maxRecDepth 100000 in
theorem m5_leastOf (l : Launch) (D : va_G) (dA : Nat → ClassId) (am : Nat → Nat) (P T : Nat → Nat → Int32) (G : Nat → Int32) (L : Nat → Nat → Int64) (kt tr : Option Nat)  (x : Int32)  : Met l yX5_leastOf (ws_ yX5_leastOf cX5_leastOf 2 (some .int)) ({ frames := 0, cells := 0, slots := 0, locals := 0 } : Room) (fPc D dA (MO dA am P T G L kt tr) [.ref (am 0), .int x]) (fQp (.int (d5_leastOf P x))) 0 0 (fun _ => False) := by
  refine Met.ofW (cc := cX5_leastOf) (maxL := 2) (ret := (some .int)) (by decide) rfl ?_
  intro p e s m args below meth c s₁ B hml hv
  obtain ⟨rfl, hP, hG⟩ := hv
  have hK := hG.1
  have hx := B.exec
  have hb := B.bytes
  have hr := B.returns
  have hts := atoms_spec (ws := (ws_ yX5_leastOf cX5_leastOf 2 (some .int))) B.pre
  have hts : ∀ w ∈ lw_all, w.before _ s = true := fun w h => hts w (List.mem_cons_of_mem _ h)
  have hown : s.vm.findClass RX5 = some m.cls := findClass_of_methodNamed B.named
  have hlocks := B.notSynchronized
  have hl := lv_entry ([.ref (am 0), .int x]) (n := 2) (Nat.le_of_ble_eq_true rfl)
  rw [lg_entry_eq]
  generalize (lg_sl ([.ref (am 0), .int x]) ++ List.replicate (2 - (lg_sl ([.ref (am 0), .int x])).length) Slot.unset).toArray = ls at hl ⊢
  have hl : lv_has ls 2 [(0, .ref (am 0)), (1, .int x)] := hl
  refine lv_iload_n hx hb dX5_leastOf_0 rfl (lv_at hl 1 rfl) ?_
  refine lv_if_ne (tgt := 9) hx hb dX5_leastOf_1 (by decide) (fun c_1 => ?_) (fun c_1 => ?_)
  · refine lv_iload_n hx hb dX5_leastOf_9 rfl (lv_at hl 1 rfl) ?_
    refine lv_iconst (v := 5) hx hb dX5_leastOf_10 (by decide) ?_
    refine lv_icmp_ne (tgt := 23) hx hb dX5_leastOf_11 (by decide) (fun c_11 => ?_) (fun c_11 => ?_)
    · refine lv_iconst (v := 0) hx hb dX5_leastOf_23 (by decide) ?_
      exact f_reti hx hb hr hlocks dX5_leastOf_24 (by unfold d5_leastOf; rw [if_neg c_1, if_neg c_11])
    · refine lv_aload_n hx hb dX5_leastOf_14 rfl (lv_at hl 0 rfl) ?_
      refine f_get hx hb hts in_X5 hown hK hP 0 MO_0 rfl 17 (by decide) (hts _ q1527) (fun x h => h) rfl dX5_leastOf_15 ?_
      refine lv_iconst (v := 4) hx hb dX5_leastOf_18 (by decide) ?_
      refine f_iald hx hb hK hP 15 0 MO_15 rfl 4 rfl (by omega) (by decide) dX5_leastOf_19 ?_
      refine lv_goto (tgt := 24) hx hb dX5_leastOf_20 (by decide) ?_
      exact f_reti hx hb hr hlocks dX5_leastOf_24 (by unfold d5_leastOf; rw [if_neg c_1, if_pos c_11])
  · refine lv_bipush (v := 30) hx hb dX5_leastOf_4 (by decide) ?_
    refine lv_goto (tgt := 24) hx hb dX5_leastOf_6 (by decide) ?_
    exact f_reti hx hb hr hlocks dX5_leastOf_24 (by unfold d5_leastOf; rw [if_pos c_1])
def d5_mostOf (P : Nat → Nat → Int32) (x : Int32) : Int32 := if x = 3 then 100 else (if x = 4 then P 6 5 else (if x ≤ 5 then 200 else 99))
set_option maxHeartbeats 4000000 in
set_option maxRecDepth 100000 in
theorem m5_mostOf (l : Launch) (D : va_G) (dA : Nat → ClassId) (am : Nat → Nat) (P T : Nat → Nat → Int32) (G : Nat → Int32) (L : Nat → Nat → Int64) (kt tr : Option Nat)  (x : Int32)  : Met l yX5_mostOf (ws_ yX5_mostOf cX5_mostOf 2 (some .int)) ({ frames := 0, cells := 0, slots := 0, locals := 0 } : Room) (fPc D dA (MO dA am P T G L kt tr) [.ref (am 0), .int x]) (fQp (.int (d5_mostOf P x))) 0 0 (fun _ => False) := by
  refine Met.ofW (cc := cX5_mostOf) (maxL := 2) (ret := (some .int)) (by decide) rfl ?_
  intro p e s m args below meth c s₁ B hml hv
  obtain ⟨rfl, hP, hG⟩ := hv
  have hK := hG.1
  have hx := B.exec
  have hb := B.bytes
  have hr := B.returns
  have hts := atoms_spec (ws := (ws_ yX5_mostOf cX5_mostOf 2 (some .int))) B.pre
  have hts : ∀ w ∈ lw_all, w.before _ s = true := fun w h => hts w (List.mem_cons_of_mem _ h)
  have hown : s.vm.findClass RX5 = some m.cls := findClass_of_methodNamed B.named
  have hlocks := B.notSynchronized
  have hl := lv_entry ([.ref (am 0), .int x]) (n := 2) (Nat.le_of_ble_eq_true rfl)
  rw [lg_entry_eq]
  generalize (lg_sl ([.ref (am 0), .int x]) ++ List.replicate (2 - (lg_sl ([.ref (am 0), .int x])).length) Slot.unset).toArray = ls at hl ⊢
  have hl : lv_has ls 2 [(0, .ref (am 0)), (1, .int x)] := hl
  refine lv_iload_n hx hb dX5_mostOf_0 rfl (lv_at hl 1 rfl) ?_
  refine lv_iconst (v := 3) hx hb dX5_mostOf_1 (by decide) ?_
  refine lv_icmp_ne (tgt := 10) hx hb dX5_mostOf_2 (by decide) (fun c_2 => ?_) (fun c_2 => ?_)
  · refine lv_iload_n hx hb dX5_mostOf_10 rfl (lv_at hl 1 rfl) ?_
    refine lv_iconst (v := 4) hx hb dX5_mostOf_11 (by decide) ?_
    refine lv_icmp_ne (tgt := 24) hx hb dX5_mostOf_12 (by decide) (fun c_12 => ?_) (fun c_12 => ?_)
    · refine lv_iload_n hx hb dX5_mostOf_24 rfl (lv_at hl 1 rfl) ?_
      refine lv_iconst (v := 5) hx hb dX5_mostOf_25 (by decide) ?_
      refine lv_icmp_le (tgt := 34) hx hb dX5_mostOf_26 (by decide) (fun c_26 => ?_) (fun c_26 => ?_)
      · refine lv_sipush (v := 200) hx hb dX5_mostOf_34 (by decide) ?_
        exact f_reti hx hb hr hlocks dX5_mostOf_37 (by unfold d5_mostOf; rw [if_neg c_2, if_neg c_12, if_pos c_26])
      · refine lv_bipush (v := 99) hx hb dX5_mostOf_29 (by decide) ?_
        refine lv_goto (tgt := 37) hx hb dX5_mostOf_31 (by decide) ?_
        exact f_reti hx hb hr hlocks dX5_mostOf_37 (by unfold d5_mostOf; rw [if_neg c_2, if_neg c_12, if_neg c_26])
    · refine lv_aload_n hx hb dX5_mostOf_15 rfl (lv_at hl 0 rfl) ?_
      refine f_get hx hb hts in_X5 hown hK hP 0 MO_0 rfl 17 (by decide) (hts _ q1527) (fun x h => h) rfl dX5_mostOf_16 ?_
      refine lv_iconst (v := 5) hx hb dX5_mostOf_19 (by decide) ?_
      refine f_iald hx hb hK hP 15 0 MO_15 rfl 5 rfl (by omega) (by decide) dX5_mostOf_20 ?_
      refine lv_goto (tgt := 37) hx hb dX5_mostOf_21 (by decide) ?_
      exact f_reti hx hb hr hlocks dX5_mostOf_37 (by unfold d5_mostOf; rw [if_neg c_2, if_pos c_12])
  · refine lv_bipush (v := 100) hx hb dX5_mostOf_5 (by decide) ?_
    refine lv_goto (tgt := 37) hx hb dX5_mostOf_7 (by decide) ?_
    exact f_reti hx hb hr hlocks dX5_mostOf_37 (by unfold d5_mostOf; rw [if_pos c_2])
def d5_isLetter (x : Int32) : Int32 := if x < 97 then 0 else (if 122 < x then 0 else 1)
set_option maxHeartbeats 4000000 in
set_option maxRecDepth 100000 in
theorem m5_isLetter (l : Launch) (D : va_G) (dA : Nat → ClassId) (w : fw)  (x : Int32)  : Met l yX5_isLetter (ws_ yX5_isLetter cX5_isLetter 1 (some .boolean)) ({ frames := 0, cells := 0, slots := 0, locals := 0 } : Room) (fPc D dA w [.int x]) (fQp (.int (d5_isLetter x))) 0 0 (fun _ => False) := by
  refine Met.ofW (cc := cX5_isLetter) (maxL := 1) (ret := (some .boolean)) (by decide) rfl ?_
  intro p e s m args below meth c s₁ B hml hv
  obtain ⟨rfl, hP, hG⟩ := hv
  have hK := hG.1
  have hx := B.exec
  have hb := B.bytes
  have hr := B.returns
  have hts := atoms_spec (ws := (ws_ yX5_isLetter cX5_isLetter 1 (some .boolean))) B.pre
  have hts : ∀ w ∈ lw_all, w.before _ s = true := fun w h => hts w (List.mem_cons_of_mem _ h)
  have hown : s.vm.findClass RX5 = some m.cls := findClass_of_methodNamed B.named
  have hlocks := B.notSynchronized
  have hl := lv_entry ([.int x]) (n := 1) (Nat.le_of_ble_eq_true rfl)
  rw [lg_entry_eq]
  generalize (lg_sl ([.int x]) ++ List.replicate (1 - (lg_sl ([.int x])).length) Slot.unset).toArray = ls at hl ⊢
  have hl : lv_has ls 1 [(0, .int x)] := hl
  refine lv_iload_n hx hb dX5_isLetter_0 rfl (lv_at hl 0 rfl) ?_
  refine lv_bipush (v := 97) hx hb dX5_isLetter_1 (by decide) ?_
  refine lv_icmp_lt (tgt := 16) hx hb dX5_isLetter_3 (by decide) (fun c_3 => ?_) (fun c_3 => ?_)
  · refine lv_iconst (v := 0) hx hb dX5_isLetter_16 (by decide) ?_
    exact f_retz hx hb hr hlocks dX5_isLetter_17 rfl (by unfold d5_isLetter; rw [if_pos c_3])
  · refine lv_iload_n hx hb dX5_isLetter_6 rfl (lv_at hl 0 rfl) ?_
    refine lv_bipush (v := 122) hx hb dX5_isLetter_7 (by decide) ?_
    refine lv_icmp_gt (tgt := 16) hx hb dX5_isLetter_9 (by decide) (fun c_9 => ?_) (fun c_9 => ?_)
    · refine lv_iconst (v := 0) hx hb dX5_isLetter_16 (by decide) ?_
      exact f_retz hx hb hr hlocks dX5_isLetter_17 rfl (by unfold d5_isLetter; rw [if_neg c_3, if_pos c_9])
    · refine lv_iconst (v := 1) hx hb dX5_isLetter_12 (by decide) ?_
      refine lv_goto (tgt := 17) hx hb dX5_isLetter_13 (by decide) ?_
      exact f_retz hx hb hr hlocks dX5_isLetter_17 rfl (by unfold d5_isLetter; rw [if_neg c_3, if_neg c_9])
theorem z5_isLetter {x : Int32} : narrow .boolean (.int (d5_isLetter x)) = .int (d5_isLetter x) := by
  unfold d5_isLetter
  split
  · first | rfl | (dsimp only; rfl)
  · split
    · first | rfl | (dsimp only; rfl)
    · first | rfl | (dsimp only; rfl)
def d5_isDigit (x : Int32) : Int32 := if x < 48 then 0 else (if 57 < x then 0 else 1)
set_option maxHeartbeats 4000000 in
set_option maxRecDepth 100000 in
theorem m5_isDigit (l : Launch) (D : va_G) (dA : Nat → ClassId) (w : fw)  (x : Int32)  : Met l yX5_isDigit (ws_ yX5_isDigit cX5_isDigit 1 (some .boolean)) ({ frames := 0, cells := 0, slots := 0, locals := 0 } : Room) (fPc D dA w [.int x]) (fQp (.int (d5_isDigit x))) 0 0 (fun _ => False) := by
  refine Met.ofW (cc := cX5_isDigit) (maxL := 1) (ret := (some .boolean)) (by decide) rfl ?_
  intro p e s m args below meth c s₁ B hml hv
  obtain ⟨rfl, hP, hG⟩ := hv
  have hK := hG.1
  have hx := B.exec
  have hb := B.bytes
  have hr := B.returns
  have hts := atoms_spec (ws := (ws_ yX5_isDigit cX5_isDigit 1 (some .boolean))) B.pre
  have hts : ∀ w ∈ lw_all, w.before _ s = true := fun w h => hts w (List.mem_cons_of_mem _ h)
  have hown : s.vm.findClass RX5 = some m.cls := findClass_of_methodNamed B.named
  have hlocks := B.notSynchronized
  have hl := lv_entry ([.int x]) (n := 1) (Nat.le_of_ble_eq_true rfl)
  rw [lg_entry_eq]
  generalize (lg_sl ([.int x]) ++ List.replicate (1 - (lg_sl ([.int x])).length) Slot.unset).toArray = ls at hl ⊢
  have hl : lv_has ls 1 [(0, .int x)] := hl
  refine lv_iload_n hx hb dX5_isDigit_0 rfl (lv_at hl 0 rfl) ?_
  refine lv_bipush (v := 48) hx hb dX5_isDigit_1 (by decide) ?_
  refine lv_icmp_lt (tgt := 16) hx hb dX5_isDigit_3 (by decide) (fun c_3 => ?_) (fun c_3 => ?_)
  · refine lv_iconst (v := 0) hx hb dX5_isDigit_16 (by decide) ?_
    exact f_retz hx hb hr hlocks dX5_isDigit_17 rfl (by unfold d5_isDigit; rw [if_pos c_3])
  · refine lv_iload_n hx hb dX5_isDigit_6 rfl (lv_at hl 0 rfl) ?_
    refine lv_bipush (v := 57) hx hb dX5_isDigit_7 (by decide) ?_
    refine lv_icmp_gt (tgt := 16) hx hb dX5_isDigit_9 (by decide) (fun c_9 => ?_) (fun c_9 => ?_)
    · refine lv_iconst (v := 0) hx hb dX5_isDigit_16 (by decide) ?_
      exact f_retz hx hb hr hlocks dX5_isDigit_17 rfl (by unfold d5_isDigit; rw [if_neg c_3, if_pos c_9])
    · refine lv_iconst (v := 1) hx hb dX5_isDigit_12 (by decide) ?_
      refine lv_goto (tgt := 17) hx hb dX5_isDigit_13 (by decide) ?_
      exact f_retz hx hb hr hlocks dX5_isDigit_17 rfl (by unfold d5_isDigit; rw [if_neg c_3, if_neg c_9])
theorem z5_isDigit {x : Int32} : narrow .boolean (.int (d5_isDigit x)) = .int (d5_isDigit x) := by
  unfold d5_isDigit
  split
  · first | rfl | (dsimp only; rfl)
  · split
    · first | rfl | (dsimp only; rfl)
    · first | rfl | (dsimp only; rfl)
def d5_isUnder (x : Int32) (y : Int32) : Int32 := if y = 0 then 1 else (if x = y then 1 else (if y = 1 then (if x = 2 then 1 else (if x = 3 then 1 else (if x = 5 then 1 else 0))) else (if y = 2 then (if x = 5 then 1 else 0) else 0)))
set_option maxHeartbeats 4000000 in
set_option maxRecDepth 100000 in
theorem m5_isUnder (l : Launch) (D : va_G) (dA : Nat → ClassId) (w : fw)  (x : Int32) (y : Int32)  : Met l yX5_isUnder (ws_ yX5_isUnder cX5_isUnder 2 (some .boolean)) ({ frames := 0, cells := 0, slots := 0, locals := 0 } : Room) (fPc D dA w [.int x, .int y]) (fQp (.int (d5_isUnder x y))) 0 0 (fun _ => False) := by
  refine Met.ofW (cc := cX5_isUnder) (maxL := 2) (ret := (some .boolean)) (by decide) rfl ?_
  intro p e s m args below meth c s₁ B hml hv
  obtain ⟨rfl, hP, hG⟩ := hv
  have hK := hG.1
  have hx := B.exec
  have hb := B.bytes
  have hr := B.returns
  have hts := atoms_spec (ws := (ws_ yX5_isUnder cX5_isUnder 2 (some .boolean))) B.pre
  have hts : ∀ w ∈ lw_all, w.before _ s = true := fun w h => hts w (List.mem_cons_of_mem _ h)
  have hown : s.vm.findClass RX5 = some m.cls := findClass_of_methodNamed B.named
  have hlocks := B.notSynchronized
  have hl := lv_entry ([.int x, .int y]) (n := 2) (Nat.le_of_ble_eq_true rfl)
  rw [lg_entry_eq]
  generalize (lg_sl ([.int x, .int y]) ++ List.replicate (2 - (lg_sl ([.int x, .int y])).length) Slot.unset).toArray = ls at hl ⊢
  have hl : lv_has ls 2 [(0, .int x), (1, .int y)] := hl
  refine lv_iload_n hx hb dX5_isUnder_0 rfl (lv_at hl 1 rfl) ?_
  refine lv_if_eq (tgt := 9) hx hb dX5_isUnder_1 (by decide) (fun c_1 => ?_) (fun c_1 => ?_)
  · refine lv_iconst (v := 1) hx hb dX5_isUnder_9 (by decide) ?_
    exact f_retz hx hb hr hlocks dX5_isUnder_10 rfl (by unfold d5_isUnder; rw [if_pos c_1])
  · refine lv_iload_n hx hb dX5_isUnder_4 rfl (lv_at hl 0 rfl) ?_
    refine lv_iload_n hx hb dX5_isUnder_5 rfl (lv_at hl 1 rfl) ?_
    refine lv_icmp_ne (tgt := 11) hx hb dX5_isUnder_6 (by decide) (fun c_6 => ?_) (fun c_6 => ?_)
    · refine lv_iload_n hx hb dX5_isUnder_11 rfl (lv_at hl 1 rfl) ?_
      refine lv_iconst (v := 1) hx hb dX5_isUnder_12 (by decide) ?_
      refine lv_icmp_ne (tgt := 39) hx hb dX5_isUnder_13 (by decide) (fun c_13 => ?_) (fun c_13 => ?_)
      · refine lv_iload_n hx hb dX5_isUnder_39 rfl (lv_at hl 1 rfl) ?_
        refine lv_iconst (v := 2) hx hb dX5_isUnder_40 (by decide) ?_
        refine lv_icmp_ne (tgt := 53) hx hb dX5_isUnder_41 (by decide) (fun c_41 => ?_) (fun c_41 => ?_)
        · refine lv_iconst (v := 0) hx hb dX5_isUnder_53 (by decide) ?_
          exact f_retz hx hb hr hlocks dX5_isUnder_54 rfl (by unfold d5_isUnder; rw [if_neg c_1, if_neg c_6, if_neg c_13, if_neg c_41])
        · refine lv_iload_n hx hb dX5_isUnder_44 rfl (lv_at hl 0 rfl) ?_
          refine lv_iconst (v := 5) hx hb dX5_isUnder_45 (by decide) ?_
          refine lv_icmp_ne (tgt := 53) hx hb dX5_isUnder_46 (by decide) (fun c_46 => ?_) (fun c_46 => ?_)
          · refine lv_iconst (v := 0) hx hb dX5_isUnder_53 (by decide) ?_
            exact f_retz hx hb hr hlocks dX5_isUnder_54 rfl (by unfold d5_isUnder; rw [if_neg c_1, if_neg c_6, if_neg c_13, if_pos c_41, if_neg c_46])
          · refine lv_iconst (v := 1) hx hb dX5_isUnder_49 (by decide) ?_
            refine lv_goto (tgt := 54) hx hb dX5_isUnder_50 (by decide) ?_
            exact f_retz hx hb hr hlocks dX5_isUnder_54 rfl (by unfold d5_isUnder; rw [if_neg c_1, if_neg c_6, if_neg c_13, if_pos c_41, if_pos c_46])
      · refine lv_iload_n hx hb dX5_isUnder_16 rfl (lv_at hl 0 rfl) ?_
        refine lv_iconst (v := 2) hx hb dX5_isUnder_17 (by decide) ?_
        refine lv_icmp_eq (tgt := 31) hx hb dX5_isUnder_18 (by decide) (fun c_18 => ?_) (fun c_18 => ?_)
        · refine lv_iconst (v := 1) hx hb dX5_isUnder_31 (by decide) ?_
          refine lv_goto (tgt := 54) hx hb dX5_isUnder_32 (by decide) ?_
          exact f_retz hx hb hr hlocks dX5_isUnder_54 rfl (by unfold d5_isUnder; rw [if_neg c_1, if_neg c_6, if_pos c_13, if_pos c_18])
        · refine lv_iload_n hx hb dX5_isUnder_21 rfl (lv_at hl 0 rfl) ?_
          refine lv_iconst (v := 3) hx hb dX5_isUnder_22 (by decide) ?_
          refine lv_icmp_eq (tgt := 31) hx hb dX5_isUnder_23 (by decide) (fun c_23 => ?_) (fun c_23 => ?_)
          · refine lv_iconst (v := 1) hx hb dX5_isUnder_31 (by decide) ?_
            refine lv_goto (tgt := 54) hx hb dX5_isUnder_32 (by decide) ?_
            exact f_retz hx hb hr hlocks dX5_isUnder_54 rfl (by unfold d5_isUnder; rw [if_neg c_1, if_neg c_6, if_pos c_13, if_neg c_18, if_pos c_23])
          · refine lv_iload_n hx hb dX5_isUnder_26 rfl (lv_at hl 0 rfl) ?_
            refine lv_iconst (v := 5) hx hb dX5_isUnder_27 (by decide) ?_
            refine lv_icmp_ne (tgt := 35) hx hb dX5_isUnder_28 (by decide) (fun c_28 => ?_) (fun c_28 => ?_)
            · refine lv_iconst (v := 0) hx hb dX5_isUnder_35 (by decide) ?_
              refine lv_goto (tgt := 54) hx hb dX5_isUnder_36 (by decide) ?_
              exact f_retz hx hb hr hlocks dX5_isUnder_54 rfl (by unfold d5_isUnder; rw [if_neg c_1, if_neg c_6, if_pos c_13, if_neg c_18, if_neg c_23, if_neg c_28])
            · refine lv_iconst (v := 1) hx hb dX5_isUnder_31 (by decide) ?_
              refine lv_goto (tgt := 54) hx hb dX5_isUnder_32 (by decide) ?_
              exact f_retz hx hb hr hlocks dX5_isUnder_54 rfl (by unfold d5_isUnder; rw [if_neg c_1, if_neg c_6, if_pos c_13, if_neg c_18, if_neg c_23, if_pos c_28])
    · refine lv_iconst (v := 1) hx hb dX5_isUnder_9 (by decide) ?_
      exact f_retz hx hb hr hlocks dX5_isUnder_10 rfl (by unfold d5_isUnder; rw [if_neg c_1, if_pos c_6])
theorem z5_isUnder {x : Int32} {y : Int32} : narrow .boolean (.int (d5_isUnder x y)) = .int (d5_isUnder x y) := by
  unfold d5_isUnder
  split
  · first | rfl | (dsimp only; rfl)
  · split
    · first | rfl | (dsimp only; rfl)
    · split
      · split
        · first | rfl | (dsimp only; rfl)
        · split
          · first | rfl | (dsimp only; rfl)
          · split
            · first | rfl | (dsimp only; rfl)
            · first | rfl | (dsimp only; rfl)
      · split
        · split
          · first | rfl | (dsimp only; rfl)
          · first | rfl | (dsimp only; rfl)
        · first | rfl | (dsimp only; rfl)
def d5_isLess (x : Int32) (y : Int32) (u : Int32) (v : Int32) : Int32 := if x < u then 1 else (if x = u then (if v ≤ y then 0 else 1) else 0)
set_option maxHeartbeats 4000000 in
set_option maxRecDepth 100000 in
theorem m5_isLess (l : Launch) (D : va_G) (dA : Nat → ClassId) (w : fw)  (x : Int32) (y : Int32) (u : Int32) (v : Int32)  : Met l yX5_isLess (ws_ yX5_isLess cX5_isLess 4 (some .boolean)) ({ frames := 0, cells := 0, slots := 0, locals := 0 } : Room) (fPc D dA w [.int x, .int y, .int u, .int v]) (fQp (.int (d5_isLess x y u v))) 0 0 (fun _ => False) := by
  refine Met.ofW (cc := cX5_isLess) (maxL := 4) (ret := (some .boolean)) (by decide) rfl ?_
  intro p e s m args below meth c s₁ B hml hv
  obtain ⟨rfl, hP, hG⟩ := hv
  have hK := hG.1
  have hx := B.exec
  have hb := B.bytes
  have hr := B.returns
  have hts := atoms_spec (ws := (ws_ yX5_isLess cX5_isLess 4 (some .boolean))) B.pre
  have hts : ∀ w ∈ lw_all, w.before _ s = true := fun w h => hts w (List.mem_cons_of_mem _ h)
  have hown : s.vm.findClass RX5 = some m.cls := findClass_of_methodNamed B.named
  have hlocks := B.notSynchronized
  have hl := lv_entry ([.int x, .int y, .int u, .int v]) (n := 4) (Nat.le_of_ble_eq_true rfl)
  rw [lg_entry_eq]
  generalize (lg_sl ([.int x, .int y, .int u, .int v]) ++ List.replicate (4 - (lg_sl ([.int x, .int y, .int u, .int v])).length) Slot.unset).toArray = ls at hl ⊢
  have hl : lv_has ls 4 [(0, .int x), (1, .int y), (2, .int u), (3, .int v)] := hl
  refine lv_iload_n hx hb dX5_isLess_0 rfl (lv_at hl 0 rfl) ?_
  refine lv_iload_n hx hb dX5_isLess_1 rfl (lv_at hl 2 rfl) ?_
  refine lv_icmp_lt (tgt := 15) hx hb dX5_isLess_2 (by decide) (fun c_2 => ?_) (fun c_2 => ?_)
  · refine lv_iconst (v := 1) hx hb dX5_isLess_15 (by decide) ?_
    refine lv_goto (tgt := 20) hx hb dX5_isLess_16 (by decide) ?_
    exact f_retz hx hb hr hlocks dX5_isLess_20 rfl (by unfold d5_isLess; rw [if_pos c_2])
  · refine lv_iload_n hx hb dX5_isLess_5 rfl (lv_at hl 0 rfl) ?_
    refine lv_iload_n hx hb dX5_isLess_6 rfl (lv_at hl 2 rfl) ?_
    refine lv_icmp_ne (tgt := 19) hx hb dX5_isLess_7 (by decide) (fun c_7 => ?_) (fun c_7 => ?_)
    · refine lv_iconst (v := 0) hx hb dX5_isLess_19 (by decide) ?_
      exact f_retz hx hb hr hlocks dX5_isLess_20 rfl (by unfold d5_isLess; rw [if_neg c_2, if_neg c_7])
    · refine lv_iload_n hx hb dX5_isLess_10 rfl (lv_at hl 1 rfl) ?_
      refine lv_iload_n hx hb dX5_isLess_11 rfl (lv_at hl 3 rfl) ?_
      refine lv_icmp_ge (tgt := 19) hx hb dX5_isLess_12 (by decide) (fun c_12 => ?_) (fun c_12 => ?_)
      · refine lv_iconst (v := 0) hx hb dX5_isLess_19 (by decide) ?_
        exact f_retz hx hb hr hlocks dX5_isLess_20 rfl (by unfold d5_isLess; rw [if_neg c_2, if_pos c_7, if_pos c_12])
      · refine lv_iconst (v := 1) hx hb dX5_isLess_15 (by decide) ?_
        refine lv_goto (tgt := 20) hx hb dX5_isLess_16 (by decide) ?_
        exact f_retz hx hb hr hlocks dX5_isLess_20 rfl (by unfold d5_isLess; rw [if_neg c_2, if_pos c_7, if_neg c_12])
theorem z5_isLess {x : Int32} {y : Int32} {u : Int32} {v : Int32} : narrow .boolean (.int (d5_isLess x y u v)) = .int (d5_isLess x y u v) := by
  unfold d5_isLess
  split
  · first | rfl | (dsimp only; rfl)
  · split
    · split
      · first | rfl | (dsimp only; rfl)
      · first | rfl | (dsimp only; rfl)
    · first | rfl | (dsimp only; rfl)
def d5_isTold (P : Nat → Nat → Int32) (x : Int32) : Int32 := if (d5_in x.toInt64 0 1) = 0 then (if (d5_in x.toInt64 10 ((9 + (P 7 0)).toInt64)) = 0 then 0 else 1) else 1
set_option maxHeartbeats 4000000 in
set_option maxRecDepth 100000 in
theorem m5_isTold (l : Launch) (D : va_G) (dA : Nat → ClassId) (am : Nat → Nat) (P T : Nat → Nat → Int32) (G : Nat → Int32) (L : Nat → Nat → Int64) (kt tr : Option Nat)  (x : Int32)  : Met l yX5_isTold (ws_ yX5_isTold cX5_isTold 2 (some .boolean)) ({ frames := 1, cells := 0, slots := 0, locals := 25 } : Room) (fPc D dA (MO dA am P T G L kt tr) [.ref (am 0), .int x]) (fQp (.int (d5_isTold P x))) 0 0 (fun _ => False) := by
  refine Met.ofW (cc := cX5_isTold) (maxL := 2) (ret := (some .boolean)) (by decide) rfl ?_
  intro p e s m args below meth c s₁ B hml hv
  obtain ⟨rfl, hP, hG⟩ := hv
  have hK := hG.1
  have hx := B.exec
  have hb := B.bytes
  have hr := B.returns
  have hts := atoms_spec (ws := (ws_ yX5_isTold cX5_isTold 2 (some .boolean))) B.pre
  have hts : ∀ w ∈ lw_all, w.before _ s = true := fun w h => hts w (List.mem_cons_of_mem _ h)
  have hown : s.vm.findClass RX5 = some m.cls := findClass_of_methodNamed B.named
  have hlocks := B.notSynchronized
  have hl := lv_entry ([.ref (am 0), .int x]) (n := 2) (Nat.le_of_ble_eq_true rfl)
  rw [lg_entry_eq]
  generalize (lg_sl ([.ref (am 0), .int x]) ++ List.replicate (2 - (lg_sl ([.ref (am 0), .int x])).length) Slot.unset).toArray = ls at hl ⊢
  have hl : lv_has ls 2 [(0, .ref (am 0)), (1, .int x)] := hl
  refine lv_iload_n hx hb dX5_isTold_0 rfl (lv_at hl 1 rfl) ?_
  refine lv_i2l (v := x.toInt64) hx hb dX5_isTold_1 rfl ?_
  refine lv_lconst (v := 0) hx hb dX5_isTold_2 (by decide) ?_
  refine lv_lconst (v := 1) hx hb dX5_isTold_3 (by decide) ?_
  refine f_pS hx hb hml hown hts (m5_in l D dA (MO dA am P T G L kt tr)  x.toInt64 0 1 ) (va_cwS 3 hts (lw_S q1624 q1625 q79 q1626) rfl rfl rfl (by decide +kernel) ⟨Nat.le_of_ble_eq_true rfl, Nat.le_of_ble_eq_true rfl⟩) hG hP f_id rfl hl.1 rfl (Nat.le_of_ble_eq_true rfl) dX5_isTold_4 ⟨Nat.zero_le _, Nat.zero_le _⟩ ?_
  refine lv_if_ne (tgt := 29) hx hb dX5_isTold_7 (by decide) (fun c_7 => ?_) (fun c_7 => ?_)
  · refine lv_iconst (v := 1) hx hb dX5_isTold_29 (by decide) ?_
    refine lv_goto (tgt := 34) hx hb dX5_isTold_30 (by decide) ?_
    exact f_retz hx hb hr hlocks dX5_isTold_34 rfl (by unfold d5_isTold; rw [if_neg c_7])
  · refine lv_iload_n hx hb dX5_isTold_10 rfl (lv_at hl 1 rfl) ?_
    refine lv_i2l (v := x.toInt64) hx hb dX5_isTold_11 rfl ?_
    refine lv_ldc2 (v := 10) hx hb hown (hts _ q1697) dX5_isTold_12 ?_
    refine lv_bipush (v := 9) hx hb dX5_isTold_15 (by decide) ?_
    refine lv_aload_n hx hb dX5_isTold_17 rfl (lv_at hl 0 rfl) ?_
    refine f_get hx hb hts in_X5 hown hK hP 0 MO_0 rfl 9 (by decide) (hts _ q1519) (fun x h => h) rfl dX5_isTold_18 ?_
    refine lv_iadd hx hb dX5_isTold_21 ?_
    refine lv_i2l (v := (9 + (P 7 0)).toInt64) hx hb dX5_isTold_22 rfl ?_
    refine f_pS hx hb hml hown hts (m5_in l D dA (MO dA am P T G L kt tr)  x.toInt64 10 ((9 + (P 7 0)).toInt64) ) (va_cwS 3 hts (lw_S q1624 q1625 q79 q1626) rfl rfl rfl (by decide +kernel) ⟨Nat.le_of_ble_eq_true rfl, Nat.le_of_ble_eq_true rfl⟩) hG hP f_id rfl hl.1 rfl (Nat.le_of_ble_eq_true rfl) dX5_isTold_23 ⟨Nat.zero_le _, Nat.zero_le _⟩ ?_
    refine lv_if_eq (tgt := 33) hx hb dX5_isTold_26 (by decide) (fun c_26 => ?_) (fun c_26 => ?_)
    · refine lv_iconst (v := 0) hx hb dX5_isTold_33 (by decide) ?_
      exact f_retz hx hb hr hlocks dX5_isTold_34 rfl (by unfold d5_isTold; rw [if_pos c_7, if_pos c_26])
    · refine lv_iconst (v := 1) hx hb dX5_isTold_29 (by decide) ?_
      refine lv_goto (tgt := 34) hx hb dX5_isTold_30 (by decide) ?_
      exact f_retz hx hb hr hlocks dX5_isTold_34 rfl (by unfold d5_isTold; rw [if_pos c_7, if_neg c_26])
theorem z5_isTold {P : Nat → Nat → Int32} {x : Int32} : narrow .boolean (.int (d5_isTold P x)) = .int (d5_isTold P x) := by
  unfold d5_isTold
  split
  · split
    · first | rfl | (dsimp only; rfl)
    · first | rfl | (dsimp only; rfl)
  · first | rfl | (dsimp only; rfl)
def d5_healed (P : Nat → Nat → Int32) (x : Int32) (y : Int32) : Int32 := if (d5_in y.toInt64 ((P 6 4).toInt64) ((P 6 5).toInt64)) = 0 then (if (P 6 4) ≤ y then (if 0 ≤ (x + (-6)) then (if (x + (-6)) ≤ 100 then x + (-6) else 100) else 0) else (if 0 ≤ (x + 4) then (if (x + 4) ≤ 100 then x + 4 else 100) else 0)) else (if 0 ≤ (x + 10) then (if (x + 10) ≤ 100 then x + 10 else 100) else 0)
set_option maxHeartbeats 4000000 in
set_option maxRecDepth 100000 in
theorem m5_healed (l : Launch) (D : va_G) (dA : Nat → ClassId) (am : Nat → Nat) (P T : Nat → Nat → Int32) (G : Nat → Int32) (L : Nat → Nat → Int64) (kt tr : Option Nat)  (x : Int32) (y : Int32)  : Met l yX5_healed (ws_ yX5_healed cX5_healed 5 (some .int)) ({ frames := 1, cells := 0, slots := 0, locals := 25 } : Room) (fPc D dA (MO dA am P T G L kt tr) [.ref (am 0), .int x, .int y]) (fQp (.int (d5_healed P x y))) 0 0 (fun _ => False) := by
  refine Met.ofW (cc := cX5_healed) (maxL := 5) (ret := (some .int)) (by decide) rfl ?_
  intro p e s m args below meth c s₁ B hml hv
  obtain ⟨rfl, hP, hG⟩ := hv
  have hK := hG.1
  have hx := B.exec
  have hb := B.bytes
  have hr := B.returns
  have hts := atoms_spec (ws := (ws_ yX5_healed cX5_healed 5 (some .int))) B.pre
  have hts : ∀ w ∈ lw_all, w.before _ s = true := fun w h => hts w (List.mem_cons_of_mem _ h)
  have hown : s.vm.findClass RX5 = some m.cls := findClass_of_methodNamed B.named
  have hlocks := B.notSynchronized
  have hl := lv_entry ([.ref (am 0), .int x, .int y]) (n := 5) (Nat.le_of_ble_eq_true rfl)
  rw [lg_entry_eq]
  generalize (lg_sl ([.ref (am 0), .int x, .int y]) ++ List.replicate (5 - (lg_sl ([.ref (am 0), .int x, .int y])).length) Slot.unset).toArray = ls at hl ⊢
  have hl : lv_has ls 5 [(0, .ref (am 0)), (1, .int x), (2, .int y)] := hl
  refine lv_iload_n hx hb dX5_healed_0 rfl (lv_at hl 2 rfl) ?_
  refine lv_i2l (v := y.toInt64) hx hb dX5_healed_1 rfl ?_
  refine lv_aload_n hx hb dX5_healed_2 rfl (lv_at hl 0 rfl) ?_
  refine f_get hx hb hts in_X5 hown hK hP 0 MO_0 rfl 17 (by decide) (hts _ q1527) (fun x h => h) rfl dX5_healed_3 ?_
  refine lv_iconst (v := 4) hx hb dX5_healed_6 (by decide) ?_
  refine f_iald hx hb hK hP 15 0 MO_15 rfl 4 rfl (by omega) (by decide) dX5_healed_7 ?_
  refine lv_i2l (v := (P 6 4).toInt64) hx hb dX5_healed_8 rfl ?_
  refine lv_aload_n hx hb dX5_healed_9 rfl (lv_at hl 0 rfl) ?_
  refine f_get hx hb hts in_X5 hown hK hP 0 MO_0 rfl 17 (by decide) (hts _ q1527) (fun x h => h) rfl dX5_healed_10 ?_
  refine lv_iconst (v := 5) hx hb dX5_healed_13 (by decide) ?_
  refine f_iald hx hb hK hP 15 0 MO_15 rfl 5 rfl (by omega) (by decide) dX5_healed_14 ?_
  refine lv_i2l (v := (P 6 5).toInt64) hx hb dX5_healed_15 rfl ?_
  refine f_pS hx hb hml hown hts (m5_in l D dA (MO dA am P T G L kt tr)  y.toInt64 ((P 6 4).toInt64) ((P 6 5).toInt64) ) (va_cwS 3 hts (lw_S q1624 q1625 q79 q1626) rfl rfl rfl (by decide +kernel) ⟨Nat.le_of_ble_eq_true rfl, Nat.le_of_ble_eq_true rfl⟩) hG hP f_id rfl hl.1 rfl (Nat.le_of_ble_eq_true rfl) dX5_healed_16 ⟨Nat.zero_le _, Nat.zero_le _⟩ ?_
  refine lv_if_eq (tgt := 27) hx hb dX5_healed_19 (by decide) (fun c_19 => ?_) (fun c_19 => ?_)
  · refine lv_iload_n hx hb dX5_healed_27 rfl (lv_at hl 2 rfl) ?_
    refine lv_aload_n hx hb dX5_healed_28 rfl (lv_at hl 0 rfl) ?_
    refine f_get hx hb hts in_X5 hown hK hP 0 MO_0 rfl 17 (by decide) (hts _ q1527) (fun x h => h) rfl dX5_healed_29 ?_
    refine lv_iconst (v := 4) hx hb dX5_healed_32 (by decide) ?_
    refine f_iald hx hb hK hP 15 0 MO_15 rfl 4 rfl (by omega) (by decide) dX5_healed_33 ?_
    refine lv_icmp_ge (tgt := 41) hx hb dX5_healed_34 (by decide) (fun c_34 => ?_) (fun c_34 => ?_)
    · refine lv_bipush (v := -6) hx hb dX5_healed_41 (by decide) ?_
      refine lv_istore_n (lv' := [(3, .int (-6)), (0, .ref (am 0)), (1, .int x), (2, .int y)]) hx hb dX5_healed_43 rfl hl (by decide) rfl (fun ls hl => ?_)
      refine lv_iload_n hx hb dX5_healed_44 rfl (lv_at hl 2 rfl) ?_
      refine lv_iload_n hx hb dX5_healed_45 rfl (lv_at hl 0 rfl) ?_
      refine lv_iadd hx hb dX5_healed_46 ?_
      refine lv_istore (lv' := [(4, .int (x + (-6))), (3, .int (-6)), (0, .ref (am 0)), (1, .int x), (2, .int y)]) hx hb dX5_healed_47 hl (by decide) rfl (fun ls hl => ?_)
      refine lv_iload hx hb dX5_healed_49 (lv_at hl 0 rfl) ?_
      refine lv_if_ge (tgt := 58) hx hb dX5_healed_51 (by decide) (fun c_51 => ?_) (fun c_51 => ?_)
      · refine lv_iload hx hb dX5_healed_58 (lv_at hl 0 rfl) ?_
        refine lv_bipush (v := 100) hx hb dX5_healed_60 (by decide) ?_
        refine lv_icmp_le (tgt := 70) hx hb dX5_healed_62 (by decide) (fun c_62 => ?_) (fun c_62 => ?_)
        · refine lv_iload hx hb dX5_healed_70 (lv_at hl 0 rfl) ?_
          exact f_reti hx hb hr hlocks dX5_healed_72 (by unfold d5_healed; rw [if_pos c_19, if_pos c_34, if_pos c_51, if_pos c_62])
        · refine lv_bipush (v := 100) hx hb dX5_healed_65 (by decide) ?_
          refine lv_goto (tgt := 72) hx hb dX5_healed_67 (by decide) ?_
          exact f_reti hx hb hr hlocks dX5_healed_72 (by unfold d5_healed; rw [if_pos c_19, if_pos c_34, if_pos c_51, if_neg c_62])
      · refine lv_iconst (v := 0) hx hb dX5_healed_54 (by decide) ?_
        refine lv_goto (tgt := 72) hx hb dX5_healed_55 (by decide) ?_
        exact f_reti hx hb hr hlocks dX5_healed_72 (by unfold d5_healed; rw [if_pos c_19, if_pos c_34, if_neg c_51])
    · refine lv_iconst (v := 4) hx hb dX5_healed_37 (by decide) ?_
      refine lv_goto (tgt := 43) hx hb dX5_healed_38 (by decide) ?_
      refine lv_istore_n (lv' := [(3, .int 4), (0, .ref (am 0)), (1, .int x), (2, .int y)]) hx hb dX5_healed_43 rfl hl (by decide) rfl (fun ls hl => ?_)
      refine lv_iload_n hx hb dX5_healed_44 rfl (lv_at hl 2 rfl) ?_
      refine lv_iload_n hx hb dX5_healed_45 rfl (lv_at hl 0 rfl) ?_
      refine lv_iadd hx hb dX5_healed_46 ?_
      refine lv_istore (lv' := [(4, .int (x + 4)), (3, .int 4), (0, .ref (am 0)), (1, .int x), (2, .int y)]) hx hb dX5_healed_47 hl (by decide) rfl (fun ls hl => ?_)
      refine lv_iload hx hb dX5_healed_49 (lv_at hl 0 rfl) ?_
      refine lv_if_ge (tgt := 58) hx hb dX5_healed_51 (by decide) (fun c_51 => ?_) (fun c_51 => ?_)
      · refine lv_iload hx hb dX5_healed_58 (lv_at hl 0 rfl) ?_
        refine lv_bipush (v := 100) hx hb dX5_healed_60 (by decide) ?_
        refine lv_icmp_le (tgt := 70) hx hb dX5_healed_62 (by decide) (fun c_62 => ?_) (fun c_62 => ?_)
        · refine lv_iload hx hb dX5_healed_70 (lv_at hl 0 rfl) ?_
          exact f_reti hx hb hr hlocks dX5_healed_72 (by unfold d5_healed; rw [if_pos c_19, if_neg c_34, if_pos c_51, if_pos c_62])
        · refine lv_bipush (v := 100) hx hb dX5_healed_65 (by decide) ?_
          refine lv_goto (tgt := 72) hx hb dX5_healed_67 (by decide) ?_
          exact f_reti hx hb hr hlocks dX5_healed_72 (by unfold d5_healed; rw [if_pos c_19, if_neg c_34, if_pos c_51, if_neg c_62])
      · refine lv_iconst (v := 0) hx hb dX5_healed_54 (by decide) ?_
        refine lv_goto (tgt := 72) hx hb dX5_healed_55 (by decide) ?_
        exact f_reti hx hb hr hlocks dX5_healed_72 (by unfold d5_healed; rw [if_pos c_19, if_neg c_34, if_neg c_51])
  · refine lv_bipush (v := 10) hx hb dX5_healed_22 (by decide) ?_
    refine lv_goto (tgt := 43) hx hb dX5_healed_24 (by decide) ?_
    refine lv_istore_n (lv' := [(3, .int 10), (0, .ref (am 0)), (1, .int x), (2, .int y)]) hx hb dX5_healed_43 rfl hl (by decide) rfl (fun ls hl => ?_)
    refine lv_iload_n hx hb dX5_healed_44 rfl (lv_at hl 2 rfl) ?_
    refine lv_iload_n hx hb dX5_healed_45 rfl (lv_at hl 0 rfl) ?_
    refine lv_iadd hx hb dX5_healed_46 ?_
    refine lv_istore (lv' := [(4, .int (x + 10)), (3, .int 10), (0, .ref (am 0)), (1, .int x), (2, .int y)]) hx hb dX5_healed_47 hl (by decide) rfl (fun ls hl => ?_)
    refine lv_iload hx hb dX5_healed_49 (lv_at hl 0 rfl) ?_
    refine lv_if_ge (tgt := 58) hx hb dX5_healed_51 (by decide) (fun c_51 => ?_) (fun c_51 => ?_)
    · refine lv_iload hx hb dX5_healed_58 (lv_at hl 0 rfl) ?_
      refine lv_bipush (v := 100) hx hb dX5_healed_60 (by decide) ?_
      refine lv_icmp_le (tgt := 70) hx hb dX5_healed_62 (by decide) (fun c_62 => ?_) (fun c_62 => ?_)
      · refine lv_iload hx hb dX5_healed_70 (lv_at hl 0 rfl) ?_
        exact f_reti hx hb hr hlocks dX5_healed_72 (by unfold d5_healed; rw [if_neg c_19, if_pos c_51, if_pos c_62])
      · refine lv_bipush (v := 100) hx hb dX5_healed_65 (by decide) ?_
        refine lv_goto (tgt := 72) hx hb dX5_healed_67 (by decide) ?_
        exact f_reti hx hb hr hlocks dX5_healed_72 (by unfold d5_healed; rw [if_neg c_19, if_pos c_51, if_neg c_62])
    · refine lv_iconst (v := 0) hx hb dX5_healed_54 (by decide) ?_
      refine lv_goto (tgt := 72) hx hb dX5_healed_55 (by decide) ?_
      exact f_reti hx hb hr hlocks dX5_healed_72 (by unfold d5_healed; rw [if_neg c_19, if_neg c_51])
def d5_isNone (T : Nat → Nat → Int32) (Ar : Nat) : Int32 := if (T 0 Ar) = (-1) then 1 else 0
set_option maxHeartbeats 4000000 in
set_option maxRecDepth 100000 in
theorem m5_isNone (l : Launch) (D : va_G) (dA : Nat → ClassId) (am : Nat → Nat) (P T : Nat → Nat → Int32) (G : Nat → Int32) (L : Nat → Nat → Int64) (kt tr : Option Nat) (Ar : Nat)  (har : P 6 2 = nI Ar) (hAr : Ar ≤ 200) : Met l yX5_isNone (ws_ yX5_isNone cX5_isNone 1 (some .boolean)) ({ frames := 0, cells := 0, slots := 0, locals := 0 } : Room) (fPc D dA (MO dA am P T G L kt tr) [.ref (am 0)]) (fQp (.int (d5_isNone T Ar))) 0 0 (fun _ => False) := by
  refine Met.ofW (cc := cX5_isNone) (maxL := 1) (ret := (some .boolean)) (by decide) rfl ?_
  intro p e s m args below meth c s₁ B hml hv
  obtain ⟨rfl, hP, hG⟩ := hv
  have hK := hG.1
  have hx := B.exec
  have hb := B.bytes
  have hr := B.returns
  have hts := atoms_spec (ws := (ws_ yX5_isNone cX5_isNone 1 (some .boolean))) B.pre
  have hts : ∀ w ∈ lw_all, w.before _ s = true := fun w h => hts w (List.mem_cons_of_mem _ h)
  have hown : s.vm.findClass RX5 = some m.cls := findClass_of_methodNamed B.named
  have hlocks := B.notSynchronized
  have hl := lv_entry ([.ref (am 0)]) (n := 1) (Nat.le_of_ble_eq_true rfl)
  rw [lg_entry_eq]
  generalize (lg_sl ([.ref (am 0)]) ++ List.replicate (1 - (lg_sl ([.ref (am 0)])).length) Slot.unset).toArray = ls at hl ⊢
  have hl : lv_has ls 1 [(0, .ref (am 0))] := hl
  refine lv_aload_n hx hb dX5_isNone_0 rfl (lv_at hl 0 rfl) ?_
  refine f_get hx hb hts in_X5 hown hK hP 0 MO_0 rfl 32 (by decide) (hts _ q1542) (fun x h => h) rfl dX5_isNone_1 ?_
  refine lv_iconst (v := 0) hx hb dX5_isNone_4 (by decide) ?_
  refine f_aldA hx hb hK hP 16 9 MO_16 rfl 0 rfl (by omega) (by decide) rfl dX5_isNone_5 ?_
  refine lv_aload_n hx hb dX5_isNone_6 rfl (lv_at hl 0 rfl) ?_
  refine f_get hx hb hts in_X5 hown hK hP 0 MO_0 rfl 17 (by decide) (hts _ q1527) (fun x h => h) rfl dX5_isNone_7 ?_
  refine lv_iconst (v := 2) hx hb dX5_isNone_10 (by decide) ?_
  refine f_iald hx hb hK hP 15 0 MO_15 rfl 2 rfl (by omega) (by decide) dX5_isNone_11 ?_
  refine f_iald hx hb hK hP (30 + 0) 0 (MO_tab0 (by decide)) rfl Ar har (by omega) (by decide) dX5_isNone_12 ?_
  refine lv_iconst (v := -1) hx hb dX5_isNone_13 (by decide) ?_
  refine lv_icmp_ne (tgt := 21) hx hb dX5_isNone_14 (by decide) (fun c_14 => ?_) (fun c_14 => ?_)
  · refine lv_iconst (v := 0) hx hb dX5_isNone_21 (by decide) ?_
    exact f_retz hx hb hr hlocks dX5_isNone_22 rfl (by unfold d5_isNone; rw [if_neg c_14])
  · refine lv_iconst (v := 1) hx hb dX5_isNone_17 (by decide) ?_
    refine lv_goto (tgt := 22) hx hb dX5_isNone_18 (by decide) ?_
    exact f_retz hx hb hr hlocks dX5_isNone_22 rfl (by unfold d5_isNone; rw [if_pos c_14])
theorem z5_isNone {T : Nat → Nat → Int32} {Ar : Nat} : narrow .boolean (.int (d5_isNone T Ar)) = .int (d5_isNone T Ar) := by
  unfold d5_isNone
  split
  · first | rfl | (dsimp only; rfl)
  · first | rfl | (dsimp only; rfl)
set_option maxHeartbeats 4000000 in
set_option maxRecDepth 100000 in
theorem m5_refuse (l : Launch) (D : va_G) (dA : Nat → ClassId) (am : Nat → Nat) (P T : Nat → Nat → Int32) (G : Nat → Int32) (L : Nat → Nat → Int64) (kt tr : Option Nat) (sz : Nat)  (k : Nat) (h_k : k < 8) : Met l yX5_refuse (ws_ yX5_refuse cX5_refuse 2 (some .int)) ({ frames := 0, cells := 0, slots := 0, locals := 0 } : Room) (fPm D dA (MO dA am P T G L kt tr) sz [.ref (am 0), .int (-(nI k))]) (fQm (S := Unit) D (MO dA am P T G L kt tr) sz (fun _ => some (.int (-(nI k)))) (fun _ => True) (fun _ => MO dA am (up P 13 k (P 13 k + 1)) T G L kt tr)) 0 0 (fA (MO dA am P T G L kt tr) sz) := by
  refine Met.ofW (cc := cX5_refuse) (maxL := 2) (ret := (some .int)) (by decide) rfl ?_
  intro p e s m args below meth c s₁ B hml hv
  obtain ⟨rfl, hsz, hP0, hG, hD0⟩ := hv
  have hK := hG.1
  have hx := B.exec
  have hb := B.bytes
  have hr := B.returns
  have hts := atoms_spec (ws := (ws_ yX5_refuse cX5_refuse 2 (some .int))) B.pre
  have hts : ∀ w ∈ lw_all, w.before _ s = true := fun w h => hts w (List.mem_cons_of_mem _ h)
  have hown : s.vm.findClass RX5 = some m.cls := findClass_of_methodNamed B.named
  have hlocks := B.notSynchronized
  subst hsz
  have hI := FI.start hP0 hD0
  have hl := lv_entry ([.ref (am 0), .int (-(nI k))]) (n := 2) (Nat.le_of_ble_eq_true rfl)
  rw [lg_entry_eq]
  generalize (lg_sl ([.ref (am 0), .int (-(nI k))]) ++ List.replicate (2 - (lg_sl ([.ref (am 0), .int (-(nI k))])).length) Slot.unset).toArray = ls at hl ⊢
  have hl : lv_has ls 2 [(0, .ref (am 0)), (1, .int (-(nI k)))] := hl
  refine lv_aload_n hx hb dX5_refuse_0 rfl (lv_at hl 0 rfl) ?_
  refine f_get hx hb hts in_X5 hown hK hI.1 0 MO_0 rfl 8 (by decide) (hts _ q1518) (fun x h => h) rfl dX5_refuse_1 ?_
  refine lv_iload_n hx hb dX5_refuse_4 rfl (lv_at hl 1 rfl) ?_
  refine lv_ineg hx hb dX5_refuse_5 ?_
  refine f_as (y := nI k) (nI_nn k) ?_
  refine lv_dup2_11 hx hb dX5_refuse_6 rfl rfl ?_
  refine f_iald hx hb hK hI.1 8 0 MO_8 rfl k rfl (by omega) (by decide) dX5_refuse_7 ?_
  refine lv_iconst (v := 1) hx hb dX5_refuse_8 (by decide) ?_
  refine lv_iadd hx hb dX5_refuse_9 ?_
  refine f_iast hx hb hK hI 8 0 MO_8 rfl k rfl (by omega) (by decide) dX5_refuse_10 (fun H locs hI => ?_)
  have hI := hI.congr MO_a8
  refine lv_iload_n hx hb dX5_refuse_11 rfl (lv_at hl 1 rfl) ?_
  exact f_mreti hx hb hr hlocks hI dX5_refuse_12 () rfl trivial rfl
theorem in_iff {v a b : Int64} : ¬ d5_in v a b = 0 ↔ a.toInt ≤ v.toInt ∧ v.toInt ≤ b.toInt := by
  unfold d5_in
  rw [← Int64.le_iff_toInt_le, ← Int64.le_iff_toInt_le]
  by_cases h1 : v < a
  · rw [if_pos h1]
    refine ⟨fun h => absurd rfl h, fun h => ?_⟩
    exact absurd h.1 (Int64.not_le.mpr h1)
  · rw [if_neg h1]
    by_cases h2 : b < v
    · rw [if_pos h2]
      refine ⟨fun h => absurd rfl h, fun h => ?_⟩
      exact absurd h.2 (Int64.not_le.mpr h2)
    · rw [if_neg h2]
      exact ⟨fun _ => ⟨Int64.not_lt.mp h1, Int64.not_lt.mp h2⟩, fun _ => by decide⟩
theorem nI_ofInt {x : Int32} {n : Nat} (h : x.toInt = n) (hn : n < 2 ^ 31) : x = nI n := Int32.toInt_inj.mp (h.trans (nI_toInt hn).symm)
/-- a range check passed: a natural -/
theorem in_nat {x : Int32} {M : Int64} {n : Nat} (h : ¬ d5_in x.toInt64 0 M = 0) (hM : M.toInt = n) (hn : n < 65536) : ∃ i : Nat, i < n + 1 ∧ x = nI i := by
  obtain ⟨h1, h2⟩ := in_iff.mp h
  rw [Int32.toInt_toInt64] at h1 h2
  rw [hM] at h2
  have h0 : (0 : Int64).toInt = 0 := by decide
  rw [h0] at h1
  exact ⟨x.toInt.toNat, by omega, nI_ofInt (by omega) (by omega)⟩
theorem pred_toInt {y : Int32} {n : Nat} (h : y = nI n) (hn : n ≤ 65536) : (y - 1).toInt64.toInt = (n : Int) - 1 := by
  rw [Int32.toInt_toInt64, h]
  have e : nI n - 1 = nI n - nI 1 := rfl
  rw [e, pk_sub_toInt (by omega) (by omega)]
  rfl
theorem isStep_nat {P : Nat → Nat → Int32} {x : Int32} {S : Nat} (h : ¬ d5_isStep P x = 0) (hst : P 7 0 = nI S) (hS : S ≤ 9) : ∃ i : Nat, i < S ∧ x = nI i := by
  unfold d5_isStep at h
  obtain ⟨h1, h2⟩ := in_iff.mp h
  rw [pred_toInt hst (by omega)] at h2
  rw [Int32.toInt_toInt64] at h1 h2
  have h0 : (0 : Int64).toInt = 0 := by decide
  rw [h0] at h1
  exact ⟨x.toInt.toNat, by omega, nI_ofInt (by omega) (by omega)⟩
theorem isWay_nat {P : Nat → Nat → Int32} {x : Int64} {W : Nat} (h : ¬ d5_isWay P x = 0) (hst : P 7 1 = nI W) (hS : W ≤ 6) : ∃ i : Nat, i < W ∧ x.toInt = i := by
  unfold d5_isWay at h
  obtain ⟨h1, h2⟩ := in_iff.mp h
  rw [pred_toInt hst (by omega)] at h2
  have h0 : (0 : Int64).toInt = 0 := by decide
  rw [h0] at h1
  exact ⟨x.toInt.toNat, by omega, by omega⟩
theorem l2i_nat {x : Int64} {i : Nat} (h : x.toInt = i) (hi : i < 65536) : x.toInt32 = nI i := by
  have e : x = lN i := Int64.toInt_inj.mp (h.trans (lN_toInt (by omega)).symm)
  rw [e, lN_i]
theorem in_natL {x y : Int32} {n : Nat} (h : ¬ d5_in x.toInt64 0 (y - 1).toInt64 = 0) (hy : y = nI n) (hn : n ≤ 65536) : ∃ i : Nat, i < n ∧ x = nI i := by
  obtain ⟨h1, h2⟩ := in_iff.mp h
  rw [pred_toInt hy (by omega)] at h2
  rw [Int32.toInt_toInt64] at h1 h2
  have h0 : (0 : Int64).toInt = 0 := by decide
  rw [h0] at h1
  exact ⟨x.toInt.toNat, by omega, nI_ofInt (by omega) (by omega)⟩
theorem in_natK {x y : Int32} {n : Nat} (h : ¬ d5_in x.toInt64 0 y.toInt64 = 0) (hy : y = nI n) (hn : n < 65536) : ∃ i : Nat, i < n + 1 ∧ x = nI i := by
  obtain ⟨h1, h2⟩ := in_iff.mp h
  rw [Int32.toInt_toInt64] at h1 h2
  rw [Int32.toInt_toInt64, hy, nI_toInt (by omega)] at h2
  have h0 : (0 : Int64).toInt = 0 := by decide
  rw [h0] at h1
  exact ⟨x.toInt.toNat, by omega, nI_ofInt (by omega) (by omega)⟩
theorem isWay_natI {P : Nat → Nat → Int32} {x : Int32} {W : Nat} (h : ¬ d5_isWay P x.toInt64 = 0) (hst : P 7 1 = nI W) (hS : W ≤ 6) : ∃ i : Nat, i < W ∧ x = nI i := by
  obtain ⟨i, h1, h2⟩ := isWay_nat h hst hS
  rw [Int32.toInt_toInt64] at h2
  exact ⟨i, h1, nI_ofInt h2 (by omega)⟩
