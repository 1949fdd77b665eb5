/-! THE REFERENCE: shelves, the stair as it is told; loops -/
def d5_noRow (P : Nat → Nat → Int32) (x : Int32) : Int32 × (Nat → Nat → Int32) := if (d5_in x.toInt64 0 7) = 0 then (-(nI 2), up P 13 2 (P 13 2 + 1)) else (if (P 8 (cN x)) = 2 then (-(nI 3), up P 13 3 (P 13 3 + 1)) else (if (P 8 (cN x)) = 0 then (-(nI 4), up P 13 4 (P 13 4 + 1)) else (0, P)))
set_option maxHeartbeats 4000000 in
set_option maxRecDepth 100000 in
theorem m5_noRow (l : Launch) (D : va_G) (dA : Nat → ClassId) (am : Nat → Nat) (P T : Nat → Nat → Int32) (G : Nat → Int32) (L : Nat → Nat → Int64) (kt tr : Option Nat) (sz : Nat)  (x : Int32)  : Met l yX5_noRow (ws_ yX5_noRow cX5_noRow 2 (some .int)) ({ frames := 1, cells := 0, slots := 0, locals := 25 } : Room) (fPm D dA (MO dA am P T G L kt tr) sz [.ref (am 0), .int x]) (fQm (S := Unit) D (MO dA am P T G L kt tr) sz (fun _ => some (.int ((d5_noRow P x).1))) (fun _ => True) (fun _ => MO dA am ((d5_noRow P x).2) T G L kt tr)) 0 0 (fA (MO dA am P T G L kt tr) sz) := by
  refine Met.ofW (cc := cX5_noRow) (maxL := 2) (ret := (some .int)) (by decide) rfl ?_
  intro p e s m args below meth c s₁ B hml hv
  obtain ⟨rfl, hsz, hP0, hG, hD0⟩ := hv
  have hK := hG.1
  have hx := B.exec
  have hb := B.bytes
  have hr := B.returns
  have hts := atoms_spec (ws := (ws_ yX5_noRow cX5_noRow 2 (some .int))) B.pre
  have hts : ∀ w ∈ lw_all, w.before _ s = true := fun w h => hts w (List.mem_cons_of_mem _ h)
  have hown : s.vm.findClass RX5 = some m.cls := findClass_of_methodNamed B.named
  have hlocks := B.notSynchronized
  subst hsz
  have hI := FI.start hP0 hD0
  have hl := lv_entry ([.ref (am 0), .int x]) (n := 2) (Nat.le_of_ble_eq_true rfl)
  rw [lg_entry_eq]
  generalize (lg_sl ([.ref (am 0), .int x]) ++ List.replicate (2 - (lg_sl ([.ref (am 0), .int x])).length) Slot.unset).toArray = ls at hl ⊢
  have hl : lv_has ls 2 [(0, .ref (am 0)), (1, .int x)] := hl
  refine lv_iload_n hx hb dX5_noRow_0 rfl (lv_at hl 1 rfl) ?_
  refine lv_i2l (v := x.toInt64) hx hb dX5_noRow_1 rfl ?_
  refine lv_lconst (v := 0) hx hb dX5_noRow_2 (by decide) ?_
  refine lv_ldc2 (v := 7) hx hb hown (hts _ q1623) dX5_noRow_3 ?_
  refine f_pS hx hb hml hown hts (m5_in l D dA (MO dA am P T G L kt tr)  x.toInt64 0 7 ) (va_cwS 3 hts (lw_S q1624 q1625 q79 q1626) rfl rfl rfl (by decide +kernel) ⟨Nat.le_of_ble_eq_true rfl, Nat.le_of_ble_eq_true rfl⟩) hG hI.1 f_id rfl hl.1 rfl (Nat.le_of_ble_eq_true rfl) dX5_noRow_6 ⟨Nat.zero_le _, Nat.zero_le _⟩ ?_
  refine lv_if_ne (tgt := 19) hx hb dX5_noRow_9 (by decide) (fun c_9 => ?_) (fun c_9 => ?_)
  · obtain ⟨jx, h_jx, rfl⟩ := in_nat c_9 (n := 7) (by decide) (by decide)
    refine lv_aload_n hx hb dX5_noRow_19 rfl (lv_at hl 0 rfl) ?_
    refine f_get hx hb hts in_X5 hown hK hI.1 0 MO_0 rfl 0 (by decide) (hts _ q1510) (fun x h => h) rfl dX5_noRow_20 ?_
    refine lv_iload_n hx hb dX5_noRow_23 rfl (lv_at hl 1 rfl) ?_
    refine f_iald hx hb hK hI.1 1 0 MO_1 rfl jx rfl (by omega) (by decide) dX5_noRow_24 ?_
    refine lv_iconst (v := 2) hx hb dX5_noRow_25 (by decide) ?_
    refine lv_icmp_ne (tgt := 36) hx hb dX5_noRow_26 (by decide) (fun c_26 => ?_) (fun c_26 => ?_)
    · refine lv_aload_n hx hb dX5_noRow_36 rfl (lv_at hl 0 rfl) ?_
      refine f_get hx hb hts in_X5 hown hK hI.1 0 MO_0 rfl 0 (by decide) (hts _ q1510) (fun x h => h) rfl dX5_noRow_37 ?_
      refine lv_iload_n hx hb dX5_noRow_40 rfl (lv_at hl 1 rfl) ?_
      refine f_iald hx hb hK hI.1 1 0 MO_1 rfl jx rfl (by omega) (by decide) dX5_noRow_41 ?_
      refine lv_if_ne (tgt := 54) hx hb dX5_noRow_42 (by decide) (fun c_42 => ?_) (fun c_42 => ?_)
      · refine lv_iconst (v := 0) hx hb dX5_noRow_54 (by decide) ?_
        have hE : (0, P) = d5_noRow P (nI jx) := (by unfold d5_noRow; (try simp only [cN_nI (show jx < 65536 by omega)]); rw [if_neg c_9, if_neg c_26, if_neg c_42])
        exact f_mreti hx hb hr hlocks hI dX5_noRow_55 () (congrArg (fun z => some (Value.int z.1)) hE) trivial (congrArg (fun z => MO dA am z.2 T G L kt tr) hE)
      · refine lv_aload_n hx hb dX5_noRow_45 rfl (lv_at hl 0 rfl) ?_
        refine lv_bipush (v := -4) hx hb dX5_noRow_46 (by decide) ?_
        refine f_mV0 hx hb hml hown hts (m5_refuse l D dA am P T G L kt tr _  4 (by omega)) (cwV 1 hts (lw_V q1629 q1631 qs32 q79 q1632) rfl rfl rfl (by decide +kernel) ⟨Nat.le_of_ble_eq_true rfl, Nat.le_of_ble_eq_true rfl⟩) hG hI MO_0 rfl rfl hl.1 rfl (Nat.le_of_ble_eq_true rfl) dX5_noRow_48 ⟨Nat.zero_le _, Nat.zero_le _⟩ (fun _ H locs _ hI => ?_)
        refine lv_goto (tgt := 55) hx hb dX5_noRow_51 (by decide) ?_
        have hE : (-(nI 4), up P 13 4 (P 13 4 + 1)) = d5_noRow P (nI jx) := (by unfold d5_noRow; (try simp only [cN_nI (show jx < 65536 by omega)]); rw [if_neg c_9, if_neg c_26, if_pos c_42])
        exact f_mreti hx hb hr hlocks hI dX5_noRow_55 () (congrArg (fun z => some (Value.int z.1)) hE) trivial (congrArg (fun z => MO dA am z.2 T G L kt tr) hE)
    · refine lv_aload_n hx hb dX5_noRow_29 rfl (lv_at hl 0 rfl) ?_
      refine lv_bipush (v := -3) hx hb dX5_noRow_30 (by decide) ?_
      refine f_mV0 hx hb hml hown hts (m5_refuse l D dA am P T G L kt tr _  3 (by omega)) (cwV 1 hts (lw_V q1629 q1631 qs32 q79 q1632) rfl rfl rfl (by decide +kernel) ⟨Nat.le_of_ble_eq_true rfl, Nat.le_of_ble_eq_true rfl⟩) hG hI MO_0 rfl rfl hl.1 rfl (Nat.le_of_ble_eq_true rfl) dX5_noRow_32 ⟨Nat.zero_le _, Nat.zero_le _⟩ (fun _ H locs _ hI => ?_)
      have hE : (-(nI 3), up P 13 3 (P 13 3 + 1)) = d5_noRow P (nI jx) := (by unfold d5_noRow; (try simp only [cN_nI (show jx < 65536 by omega)]); rw [if_neg c_9, if_pos c_26])
      exact f_mreti hx hb hr hlocks hI dX5_noRow_35 () (congrArg (fun z => some (Value.int z.1)) hE) trivial (congrArg (fun z => MO dA am z.2 T G L kt tr) hE)
  · refine lv_aload_n hx hb dX5_noRow_12 rfl (lv_at hl 0 rfl) ?_
    refine lv_bipush (v := -2) hx hb dX5_noRow_13 (by decide) ?_
    refine f_mV0 hx hb hml hown hts (m5_refuse l D dA am P T G L kt tr _  2 (by omega)) (cwV 1 hts (lw_V q1629 q1631 qs32 q79 q1632) rfl rfl rfl (by decide +kernel) ⟨Nat.le_of_ble_eq_true rfl, Nat.le_of_ble_eq_true rfl⟩) hG hI MO_0 rfl rfl hl.1 rfl (Nat.le_of_ble_eq_true rfl) dX5_noRow_15 ⟨Nat.zero_le _, Nat.zero_le _⟩ (fun _ H locs _ hI => ?_)
    have hE : (-(nI 2), up P 13 2 (P 13 2 + 1)) = d5_noRow P x := (by unfold d5_noRow; rw [if_pos c_9])
    exact f_mreti hx hb hr hlocks hI dX5_noRow_18 () (congrArg (fun z => some (Value.int z.1)) hE) trivial (congrArg (fun z => MO dA am z.2 T G L kt tr) hE)
theorem noRow_ok {P : Nat → Nat → Int32} {x : Int32} (h : (d5_noRow P x).1 = 0) : d5_noRow P x = (0, P) ∧ ∃ i : Nat, i < 8 ∧ x = nI i ∧ P 8 i ≠ 2 ∧ P 8 i ≠ 0 := by
  unfold d5_noRow at h ⊢
  by_cases c1 : d5_in x.toInt64 0 7 = 0
  · rw [if_pos c1] at h; exact absurd (show -(nI 2) = 0 from h) (by decide)
  · rw [if_neg c1] at h ⊢
    obtain ⟨i, hi, rfl⟩ := in_nat c1 (n := 7) (by decide) (by decide)
    rw [cN_nI (by omega)] at h ⊢
    by_cases c2 : P 8 i = 2
    · rw [if_pos c2] at h; exact absurd (show -(nI 3) = 0 from h) (by decide)
    · rw [if_neg c2] at h ⊢
      by_cases c3 : P 8 i = 0
      · rw [if_pos c3] at h; exact absurd (show -(nI 4) = 0 from h) (by decide)
      · rw [if_neg c3]
        exact ⟨rfl, i, hi, rfl, c2, c3⟩
def g5_row_67 (P : Nat → Nat → Int32) (jx : Nat) (jy : Nat) (jz : Nat)  : Nat → Nat → (Nat → Nat → Int64) → Int32 × (Nat → Nat → Int32) × (Nat → Nat → Int64)
  | 0, _, _ => (0, fun _ _ => 0, fun _ _ => 0)
  | n + 1, k4, L1 => if 40 ≤ (nI k4) then (1, up (up (up P 8 jx 1) 9 jx (nI jy)) 10 jx (nI jz), L1) else g5_row_67 P jx jy jz n (k4 + 1) (upL L1 jx k4 0)
def d5_row (P : Nat → Nat → Int32) (L : Nat → Nat → Int64) (x : Int32) (y : Int32) (z : Int32) : Int32 × (Nat → Nat → Int32) × (Nat → Nat → Int64) := if (d5_in x.toInt64 0 7) = 0 then (-(nI 2), up P 13 2 (P 13 2 + 1), L) else (if (d5_in y.toInt64 0 4) = 0 then (-(nI 2), up P 13 2 (P 13 2 + 1), L) else (if (d5_in z.toInt64 0 40) = 0 then (-(nI 2), up P 13 2 (P 13 2 + 1), L) else g5_row_67 P (cN x) (cN y) (cN z) 41 0 L))
set_option maxHeartbeats 4000000 in
set_option maxRecDepth 100000 in
theorem m5_row (l : Launch) (D : va_G) (dA : Nat → ClassId) (am : Nat → Nat) (P T : Nat → Nat → Int32) (G : Nat → Int32) (L : Nat → Nat → Int64) (kt tr : Option Nat) (sz : Nat)  (x : Int32) (y : Int32) (z : Int32)  : Met l yX5_row (ws_ yX5_row cX5_row 5 (some .int)) ({ frames := 1, cells := 0, slots := 0, locals := 25 } : Room) (fPm D dA (MO dA am P T G L kt tr) sz [.ref (am 0), .int x, .int y, .int z]) (fQm (S := Unit) D (MO dA am P T G L kt tr) sz (fun _ => some (.int ((d5_row P L x y z).1))) (fun _ => True) (fun _ => MO dA am ((d5_row P L x y z).2.1) T G ((d5_row P L x y z).2.2) kt tr)) 0 0 (fA (MO dA am P T G L kt tr) sz) := by
  refine Met.ofW (cc := cX5_row) (maxL := 5) (ret := (some .int)) (by decide) rfl ?_
  intro p e s m args below meth c s₁ B hml hv
  obtain ⟨rfl, hsz, hP0, hG, hD0⟩ := hv
  have hK := hG.1
  have hx := B.exec
  have hb := B.bytes
  have hr := B.returns
  have hts := atoms_spec (ws := (ws_ yX5_row cX5_row 5 (some .int))) B.pre
  have hts : ∀ w ∈ lw_all, w.before _ s = true := fun w h => hts w (List.mem_cons_of_mem _ h)
  have hown : s.vm.findClass RX5 = some m.cls := findClass_of_methodNamed B.named
  have hlocks := B.notSynchronized
  subst hsz
  have hI := FI.start hP0 hD0
  have hl := lv_entry ([.ref (am 0), .int x, .int y, .int z]) (n := 5) (Nat.le_of_ble_eq_true rfl)
  rw [lg_entry_eq]
  generalize (lg_sl ([.ref (am 0), .int x, .int y, .int z]) ++ List.replicate (5 - (lg_sl ([.ref (am 0), .int x, .int y, .int z])).length) Slot.unset).toArray = ls at hl ⊢
  have hl : lv_has ls 5 [(0, .ref (am 0)), (1, .int x), (2, .int y), (3, .int z)] := hl
  refine lv_iload_n hx hb dX5_row_0 rfl (lv_at hl 1 rfl) ?_
  refine lv_i2l (v := x.toInt64) hx hb dX5_row_1 rfl ?_
  refine lv_lconst (v := 0) hx hb dX5_row_2 (by decide) ?_
  refine lv_ldc2 (v := 7) hx hb hown (hts _ q1623) dX5_row_3 ?_
  refine f_pS hx hb hml hown hts (m5_in l D dA (MO dA am P T G L kt tr)  x.toInt64 0 7 ) (va_cwS 3 hts (lw_S q1624 q1625 q79 q1626) rfl rfl rfl (by decide +kernel) ⟨Nat.le_of_ble_eq_true rfl, Nat.le_of_ble_eq_true rfl⟩) hG hI.1 f_id rfl hl.1 rfl (Nat.le_of_ble_eq_true rfl) dX5_row_6 ⟨Nat.zero_le _, Nat.zero_le _⟩ ?_
  refine lv_if_eq (tgt := 36) hx hb dX5_row_9 (by decide) (fun c_9 => ?_) (fun c_9 => ?_)
  · refine lv_aload_n hx hb dX5_row_36 rfl (lv_at hl 0 rfl) ?_
    refine lv_bipush (v := -2) hx hb dX5_row_37 (by decide) ?_
    refine f_mV0 hx hb hml hown hts (m5_refuse l D dA am P T G L kt tr _  2 (by omega)) (cwV 1 hts (lw_V q1629 q1631 qs32 q79 q1632) rfl rfl rfl (by decide +kernel) ⟨Nat.le_of_ble_eq_true rfl, Nat.le_of_ble_eq_true rfl⟩) hG hI MO_0 rfl rfl hl.1 rfl (Nat.le_of_ble_eq_true rfl) dX5_row_39 ⟨Nat.zero_le _, Nat.zero_le _⟩ (fun _ H locs _ hI => ?_)
    have hE : (-(nI 2), up P 13 2 (P 13 2 + 1), L) = d5_row P L x y z := (by unfold d5_row; rw [if_pos c_9])
    exact f_mreti hx hb hr hlocks hI dX5_row_42 () (congrArg (fun z => some (Value.int z.1)) hE) trivial (congrArg (fun z => MO dA am z.2.1 T G z.2.2 kt tr) hE)
  · obtain ⟨jx, h_jx, rfl⟩ := in_nat c_9 (n := 7) (by decide) (by decide)
    refine lv_iload_n hx hb dX5_row_12 rfl (lv_at hl 2 rfl) ?_
    refine lv_i2l (v := y.toInt64) hx hb dX5_row_13 rfl ?_
    refine lv_lconst (v := 0) hx hb dX5_row_14 (by decide) ?_
    refine lv_ldc2 (v := 4) hx hb hown (hts _ q1627) dX5_row_15 ?_
    refine f_pS hx hb hml hown hts (m5_in l D dA (MO dA am P T G L kt tr)  y.toInt64 0 4 ) (va_cwS 3 hts (lw_S q1624 q1625 q79 q1626) rfl rfl rfl (by decide +kernel) ⟨Nat.le_of_ble_eq_true rfl, Nat.le_of_ble_eq_true rfl⟩) hG hI.1 f_id rfl hl.1 rfl (Nat.le_of_ble_eq_true rfl) dX5_row_18 ⟨Nat.zero_le _, Nat.zero_le _⟩ ?_
    refine lv_if_eq (tgt := 36) hx hb dX5_row_21 (by decide) (fun c_21 => ?_) (fun c_21 => ?_)
    · refine lv_aload_n hx hb dX5_row_36 rfl (lv_at hl 0 rfl) ?_
      refine lv_bipush (v := -2) hx hb dX5_row_37 (by decide) ?_
      refine f_mV0 hx hb hml hown hts (m5_refuse l D dA am P T G L kt tr _  2 (by omega)) (cwV 1 hts (lw_V q1629 q1631 qs32 q79 q1632) rfl rfl rfl (by decide +kernel) ⟨Nat.le_of_ble_eq_true rfl, Nat.le_of_ble_eq_true rfl⟩) hG hI MO_0 rfl rfl hl.1 rfl (Nat.le_of_ble_eq_true rfl) dX5_row_39 ⟨Nat.zero_le _, Nat.zero_le _⟩ (fun _ H locs _ hI => ?_)
      have hE : (-(nI 2), up P 13 2 (P 13 2 + 1), L) = d5_row P L (nI jx) y z := (by unfold d5_row; (try simp only [cN_nI (show jx < 65536 by omega)]); rw [if_neg c_9, if_pos c_21])
      exact f_mreti hx hb hr hlocks hI dX5_row_42 () (congrArg (fun z => some (Value.int z.1)) hE) trivial (congrArg (fun z => MO dA am z.2.1 T G z.2.2 kt tr) hE)
    · obtain ⟨jy, h_jy, rfl⟩ := in_nat c_21 (n := 4) (by decide) (by decide)
      refine lv_iload_n hx hb dX5_row_24 rfl (lv_at hl 3 rfl) ?_
      refine lv_i2l (v := z.toInt64) hx hb dX5_row_25 rfl ?_
      refine lv_lconst (v := 0) hx hb dX5_row_26 (by decide) ?_
      refine lv_ldc2 (v := 40) hx hb hown (hts _ q1628) dX5_row_27 ?_
      refine f_pS hx hb hml hown hts (m5_in l D dA (MO dA am P T G L kt tr)  z.toInt64 0 40 ) (va_cwS 3 hts (lw_S q1624 q1625 q79 q1626) rfl rfl rfl (by decide +kernel) ⟨Nat.le_of_ble_eq_true rfl, Nat.le_of_ble_eq_true rfl⟩) hG hI.1 f_id rfl hl.1 rfl (Nat.le_of_ble_eq_true rfl) dX5_row_30 ⟨Nat.zero_le _, Nat.zero_le _⟩ ?_
      refine lv_if_ne (tgt := 43) hx hb dX5_row_33 (by decide) (fun c_33 => ?_) (fun c_33 => ?_)
      · obtain ⟨jz, h_jz, rfl⟩ := in_nat c_33 (n := 40) (by decide) (by decide)
        refine lv_aload_n hx hb dX5_row_43 rfl (lv_at hl 0 rfl) ?_
        refine f_get hx hb hts in_X5 hown hK hI.1 0 MO_0 rfl 0 (by decide) (hts _ q1510) (fun x h => h) rfl dX5_row_44 ?_
        refine lv_iload_n hx hb dX5_row_47 rfl (lv_at hl 1 rfl) ?_
        refine lv_iconst (v := 1) hx hb dX5_row_48 (by decide) ?_
        refine f_iast hx hb hK hI 1 0 MO_1 rfl jx rfl (by omega) (by decide) dX5_row_49 (fun H locs hI => ?_)
        have hI := hI.congr MO_a1
        refine lv_aload_n hx hb dX5_row_50 rfl (lv_at hl 0 rfl) ?_
        refine f_get hx hb hts in_X5 hown hK hI.1 0 MO_0 rfl 1 (by decide) (hts _ q1511) (fun x h => h) rfl dX5_row_51 ?_
        refine lv_iload_n hx hb dX5_row_54 rfl (lv_at hl 1 rfl) ?_
        refine lv_iload_n hx hb dX5_row_55 rfl (lv_at hl 2 rfl) ?_
        refine f_iast hx hb hK hI 2 0 MO_2 rfl jx rfl (by omega) (by decide) dX5_row_56 (fun H locs hI => ?_)
        have hI := hI.congr MO_a2
        refine lv_aload_n hx hb dX5_row_57 rfl (lv_at hl 0 rfl) ?_
        refine f_get hx hb hts in_X5 hown hK hI.1 0 MO_0 rfl 2 (by decide) (hts _ q1512) (fun x h => h) rfl dX5_row_58 ?_
        refine lv_iload_n hx hb dX5_row_61 rfl (lv_at hl 1 rfl) ?_
        refine lv_iload_n hx hb dX5_row_62 rfl (lv_at hl 3 rfl) ?_
        refine f_iast hx hb hK hI 3 0 MO_3 rfl jx rfl (by omega) (by decide) dX5_row_63 (fun H locs hI => ?_)
        have hI := hI.congr MO_a3
        refine lv_iconst (v := 0) hx hb dX5_row_64 (by decide) ?_
        refine lv_istore (lv' := [(4, .int 0), (0, .ref (am 0)), (1, .int (nI jx)), (2, .int (nI jy)), (3, .int (nI jz))]) hx hb dX5_row_65 hl (by decide) rfl (fun ls hl => ?_)
        have lp_67 : ∀ (n67 : Nat) (k4 : Nat) (L1 : Nat → Nat → Int64), (k4 ≤ 40) → 40 - k4 < n67 → g5_row_67 P jx jy jz n67 k4 L1 = d5_row P L (nI jx) (nI jy) (nI jz) → ∀ (H : Heap) (locs : List Loc), FI D gcl (fA (MO dA am P T G L kt tr) s.heap.size) s.heap (MO dA am (up (up (up P 8 jx 1) 9 jx (nI jy)) 10 jx (nI jz)) T G L1 kt tr) H locs → ∀ (ls : Array Slot), lv_has ls 5 [(4, .int (nI k4)), (0, .ref (am 0)), (1, .int (nI jx)), (2, .int (nI jy)), (3, .int (nI jz))] → W p l e (headSpec (ws_ yX5_row cX5_row 5 (some .int)) ({ frames := 1, cells := 0, slots := 0, locals := 25 } : Room)).room s m ([.ref (am 0), .int (nI jx), .int (nI jy), .int (nI jz)] : List Value).toArray below meth c H locs 0 0 (MQ below (fQm (S := Unit) D (MO dA am P T G L kt tr) s.heap.size (fun _ => some (.int ((d5_row P L (nI jx) (nI jy) (nI jz)).1))) (fun _ => True) (fun _ => MO dA am ((d5_row P L (nI jx) (nI jy) (nI jz)).2.1) T G ((d5_row P L (nI jx) (nI jy) (nI jz)).2.2) kt tr)) ([.ref (am 0), .int (nI jx), .int (nI jy), .int (nI jz)] : List Value).toArray s 0 0 (fA (MO dA am P T G L kt tr) s.heap.size)) (F0 m 67 ls []) := by
          intro n67
          induction n67 with
          | zero => intro k4 L1 hk hM67; exact absurd hM67 (Nat.not_lt_zero _)
          | succ n67 ih67 =>
            intro k4 L1 hk hM67 hV H locs hI ls hl
            unfold g5_row_67 at hV
            refine lv_iload hx hb dX5_row_67 (lv_at hl 0 rfl) ?_
            refine lv_bipush (v := 40) hx hb dX5_row_69 (by decide) ?_
            refine lv_icmp_ge (tgt := 90) hx hb dX5_row_71 (by decide) (fun (c_71 : 40 ≤ (nI k4)) => ?_) (fun (c_71 : ¬ (40 ≤ (nI k4))) => ?_)
            · have e_71 := (nat_le (a := 40) (b := k4) rfl rfl (by omega) (by omega)).mp c_71
              refine lv_iconst (v := 1) hx hb dX5_row_90 (by decide) ?_
              have hE : (1, up (up (up P 8 jx 1) 9 jx (nI jy)) 10 jx (nI jz), L1) = d5_row P L (nI jx) (nI jy) (nI jz) := (by have z := hV; rw [if_pos c_71] at z; exact z)
              exact f_mreti hx hb hr hlocks hI dX5_row_91 () (congrArg (fun z => some (Value.int z.1)) hE) trivial (congrArg (fun z => MO dA am z.2.1 T G z.2.2 kt tr) hE)
            · have e_71 := (not_congr (nat_le (a := 40) (b := k4) rfl rfl (by omega) (by omega))).mp c_71
              refine lv_aload_n hx hb dX5_row_74 rfl (lv_at hl 1 rfl) ?_
              refine f_get hx hb hts in_X5 hown hK hI.1 0 MO_0 rfl 3 (by decide) (hts _ q1513) (fun x h => h) rfl dX5_row_75 ?_
              refine lv_iload_n hx hb dX5_row_78 rfl (lv_at hl 2 rfl) ?_
              refine f_aldA hx hb hK hI.1 4 10 MO_4 rfl jx rfl (by omega) (by decide) rfl dX5_row_79 ?_
              refine lv_iload hx hb dX5_row_80 (lv_at hl 0 rfl) ?_
              refine lv_lconst (v := 0) hx hb dX5_row_82 (by decide) ?_
              refine f_last hx hb hK hI (20 + jx) 3 (MO_row (by omega)) rfl k4 rfl (by omega) (by decide) dX5_row_83 (fun H locs hI => ?_)
              have hI := hI.congr (MO_ar (by omega))
              refine lv_iinc (v := nI (k4 + 1)) (lv' := [(4, .int (nI (k4 + 1))), (0, .ref (am 0)), (1, .int (nI jx)), (2, .int (nI jy)), (3, .int (nI jz))]) hx hb dX5_row_84 hl (k := 0) rfl (nI_1 k4) (by decide) rfl (fun ls hl => ?_)
              refine lv_goto (tgt := 67) hx hb dX5_row_87 (by decide) ?_
              exact ih67 (k4 + 1) (upL L1 jx k4 0) (by omega) (by omega) (by have z := hV; rw [if_neg c_71] at z; exact z) _ _ hI ls (lv_sub hl [0, 1, 2, 3, 4] rfl)
        exact lp_67 41 0 L (by omega) (by omega) (by unfold d5_row; (try simp only [cN_nI (show jx < 65536 by omega), cN_nI (show jy < 65536 by omega), cN_nI (show jz < 65536 by omega)]); rw [if_neg c_9, if_neg c_21, if_neg c_33]) _ _ hI ls (lv_sub hl [0, 1, 2, 3, 4] rfl)
      · refine lv_aload_n hx hb dX5_row_36 rfl (lv_at hl 0 rfl) ?_
        refine lv_bipush (v := -2) hx hb dX5_row_37 (by decide) ?_
        refine f_mV0 hx hb hml hown hts (m5_refuse l D dA am P T G L kt tr _  2 (by omega)) (cwV 1 hts (lw_V q1629 q1631 qs32 q79 q1632) rfl rfl rfl (by decide +kernel) ⟨Nat.le_of_ble_eq_true rfl, Nat.le_of_ble_eq_true rfl⟩) hG hI MO_0 rfl rfl hl.1 rfl (Nat.le_of_ble_eq_true rfl) dX5_row_39 ⟨Nat.zero_le _, Nat.zero_le _⟩ (fun _ H locs _ hI => ?_)
        have hE : (-(nI 2), up P 13 2 (P 13 2 + 1), L) = d5_row P L (nI jx) (nI jy) z := (by unfold d5_row; (try simp only [cN_nI (show jx < 65536 by omega), cN_nI (show jy < 65536 by omega)]); rw [if_neg c_9, if_neg c_21, if_pos c_33])
        exact f_mreti hx hb hr hlocks hI dX5_row_42 () (congrArg (fun z => some (Value.int z.1)) hE) trivial (congrArg (fun z => MO dA am z.2.1 T G z.2.2 kt tr) hE)
def d5_fit (x : Int32) (v : Int64) : Int64 := if x = 0 then v.toInt32.toInt8.toInt32.toInt64 else (if x = 1 then v.toInt32.toInt16.toInt32.toInt64 else (if x = 2 then v.toInt32.toInt64 else (if x = 3 then v else (if v = 0 then 0 else 1))))
set_option maxHeartbeats 4000000 in
set_option maxRecDepth 100000 in
theorem m5_fit (l : Launch) (D : va_G) (dA : Nat → ClassId) (w : fw)  (x : Int32) (v : Int64)  : Met l yX5_fit (ws_ yX5_fit cX5_fit 3 (some .long)) ({ frames := 0, cells := 0, slots := 0, locals := 0 } : Room) (fPc D dA w [.int x, .long v]) (fQp (.long (d5_fit x v))) 0 0 (fun _ => False) := by
  refine Met.ofW (cc := cX5_fit) (maxL := 3) (ret := (some .long)) (by decide) rfl ?_
  intro p e s m args below meth c s₁ B hml hv
  obtain ⟨rfl, hP, hG⟩ := hv
  have hK := hG.1
  have hx := B.exec
  have hb := B.bytes
  have hr := B.returns
  have hts := atoms_spec (ws := (ws_ yX5_fit cX5_fit 3 (some .long))) B.pre
  have hts : ∀ w ∈ lw_all, w.before _ s = true := fun w h => hts w (List.mem_cons_of_mem _ h)
  have hown : s.vm.findClass RX5 = some m.cls := findClass_of_methodNamed B.named
  have hlocks := B.notSynchronized
  have hl := lv_entry ([.int x, .long v]) (n := 3) (Nat.le_of_ble_eq_true rfl)
  rw [lg_entry_eq]
  generalize (lg_sl ([.int x, .long v]) ++ List.replicate (3 - (lg_sl ([.int x, .long v])).length) Slot.unset).toArray = ls at hl ⊢
  have hl : lv_has ls 3 [(0, .int x), (1, .long v)] := hl
  refine lv_iload_n hx hb dX5_fit_0 rfl (lv_at hl 0 rfl) ?_
  refine f_swCase (x = 0) (fun c_1_0 => ?_) (fun c_1_0 => ?_)
  · refine lv_tableIn (tgt := 32) hx hb dX5_fit_1 (by rw [c_1_0]; decide) (by rw [c_1_0]; decide) (by rw [c_1_0]; rfl) (by decide) ?_
    refine lv_lload_n hx hb dX5_fit_32 rfl (lv_at hl 1 rfl) ?_
    refine lv_l2i (v := v.toInt32) hx hb dX5_fit_33 rfl ?_
    refine lv_i2b (v := v.toInt32.toInt8.toInt32) hx hb dX5_fit_34 rfl ?_
    refine lv_i2l (v := v.toInt32.toInt8.toInt32.toInt64) hx hb dX5_fit_35 rfl ?_
    exact f_retl hx hb hr hlocks dX5_fit_36 (by unfold d5_fit; rw [if_pos c_1_0])
  · refine f_swCase (x = 1) (fun c_1_1 => ?_) (fun c_1_1 => ?_)
    · refine lv_tableIn (tgt := 37) hx hb dX5_fit_1 (by rw [c_1_1]; decide) (by rw [c_1_1]; decide) (by rw [c_1_1]; rfl) (by decide) ?_
      refine lv_lload_n hx hb dX5_fit_37 rfl (lv_at hl 1 rfl) ?_
      refine lv_l2i (v := v.toInt32) hx hb dX5_fit_38 rfl ?_
      refine lv_i2s (v := v.toInt32.toInt16.toInt32) hx hb dX5_fit_39 rfl ?_
      refine lv_i2l (v := v.toInt32.toInt16.toInt32.toInt64) hx hb dX5_fit_40 rfl ?_
      exact f_retl hx hb hr hlocks dX5_fit_41 (by unfold d5_fit; rw [if_neg c_1_0, if_pos c_1_1])
    · refine f_swCase (x = 2) (fun c_1_2 => ?_) (fun c_1_2 => ?_)
      · refine lv_tableIn (tgt := 42) hx hb dX5_fit_1 (by rw [c_1_2]; decide) (by rw [c_1_2]; decide) (by rw [c_1_2]; rfl) (by decide) ?_
        refine lv_lload_n hx hb dX5_fit_42 rfl (lv_at hl 1 rfl) ?_
        refine lv_l2i (v := v.toInt32) hx hb dX5_fit_43 rfl ?_
        refine lv_i2l (v := v.toInt32.toInt64) hx hb dX5_fit_44 rfl ?_
        exact f_retl hx hb hr hlocks dX5_fit_45 (by unfold d5_fit; rw [if_neg c_1_0, if_neg c_1_1, if_pos c_1_2])
      · refine f_swCase (x = 3) (fun c_1_3 => ?_) (fun c_1_3 => ?_)
        · refine lv_tableIn (tgt := 46) hx hb dX5_fit_1 (by rw [c_1_3]; decide) (by rw [c_1_3]; decide) (by rw [c_1_3]; rfl) (by decide) ?_
          refine lv_lload_n hx hb dX5_fit_46 rfl (lv_at hl 1 rfl) ?_
          exact f_retl hx hb hr hlocks dX5_fit_47 (by unfold d5_fit; rw [if_neg c_1_0, if_neg c_1_1, if_neg c_1_2, if_pos c_1_3])
        · refine lv_tableOut (tgt := 48) hx hb dX5_fit_1 (f_swOut (lo := 0) (n := 4) (f_sw4 (lo := 0) c_1_0 c_1_1 c_1_2 c_1_3) rfl) (by decide) ?_
          refine lv_lload_n hx hb dX5_fit_48 rfl (lv_at hl 1 rfl) ?_
          refine lv_lconst (v := 0) hx hb dX5_fit_49 (by decide) ?_
          refine W.lcmp hx hb dX5_fit_50 ?_
          refine f_if_eqL (tgt := 58) hx hb dX5_fit_51 (by decide) (fun c_51 => ?_) (fun c_51 => ?_)
          · refine lv_lconst (v := 0) hx hb dX5_fit_58 (by decide) ?_
            exact f_retl hx hb hr hlocks dX5_fit_59 (by unfold d5_fit; rw [if_neg c_1_0, if_neg c_1_1, if_neg c_1_2, if_neg c_1_3, if_pos c_51])
          · refine lv_lconst (v := 1) hx hb dX5_fit_54 (by decide) ?_
            refine lv_goto (tgt := 59) hx hb dX5_fit_55 (by decide) ?_
            exact f_retl hx hb hr hlocks dX5_fit_59 (by unfold d5_fit; rw [if_neg c_1_0, if_neg c_1_1, if_neg c_1_2, if_neg c_1_3, if_neg c_51])
def d5_set (P : Nat → Nat → Int32) (L : Nat → Nat → Int64) (x : Int32) (y : Int32) (v : Int64) : Int32 × (Nat → Nat → Int32) × (Nat → Nat → Int64) := if ((d5_noRow P x).1) = 0 then (if (d5_in y.toInt64 0 (((P 10 (cN x)) - 1).toInt64)) = 0 then (-(nI 2), up P 13 2 (P 13 2 + 1), L) else (1, P, upL L (cN x) (cN y) (d5_fit (P 9 (cN x)) v))) else ((d5_noRow P x).1, (d5_noRow P x).2, L)
set_option maxHeartbeats 4000000 in
set_option maxRecDepth 100000 in
theorem m5_set (l : Launch) (D : va_G) (dA : Nat → ClassId) (am : Nat → Nat) (P T : Nat → Nat → Int32) (G : Nat → Int32) (L : Nat → Nat → Int64) (kt tr : Option Nat) (sz : Nat)  (x : Int32) (y : Int32) (v : Int64) (hrow : ∀ i, i < 8 → ∃ n : Nat, n ≤ 40 ∧ P 10 i = nI n) : Met l yX5_set (ws_ yX5_set cX5_set 6 (some .int)) ({ frames := 2, cells := 0, slots := 0, locals := 46 } : Room) (fPm D dA (MO dA am P T G L kt tr) sz [.ref (am 0), .int x, .int y, .long v]) (fQm (S := Unit) D (MO dA am P T G L kt tr) sz (fun _ => some (.int ((d5_set P L x y v).1))) (fun _ => True) (fun _ => MO dA am ((d5_set P L x y v).2.1) T G ((d5_set P L x y v).2.2) kt tr)) 0 0 (fA (MO dA am P T G L kt tr) sz) := by
  refine Met.ofW (cc := cX5_set) (maxL := 6) (ret := (some .int)) (by decide) rfl ?_
  intro p e s m args below meth c s₁ B hml hv
  obtain ⟨rfl, hsz, hP0, hG, hD0⟩ := hv
  have hK := hG.1
  have hx := B.exec
  have hb := B.bytes
  have hr := B.returns
  have hts := atoms_spec (ws := (ws_ yX5_set cX5_set 6 (some .int))) B.pre
  have hts : ∀ w ∈ lw_all, w.before _ s = true := fun w h => hts w (List.mem_cons_of_mem _ h)
  have hown : s.vm.findClass RX5 = some m.cls := findClass_of_methodNamed B.named
  have hlocks := B.notSynchronized
  subst hsz
  have hI := FI.start hP0 hD0
  have hl := lv_entry ([.ref (am 0), .int x, .int y, .long v]) (n := 6) (Nat.le_of_ble_eq_true rfl)
  rw [lg_entry_eq]
  generalize (lg_sl ([.ref (am 0), .int x, .int y, .long v]) ++ List.replicate (6 - (lg_sl ([.ref (am 0), .int x, .int y, .long v])).length) Slot.unset).toArray = ls at hl ⊢
  have hl : lv_has ls 6 [(0, .ref (am 0)), (1, .int x), (2, .int y), (3, .long v)] := hl
  refine lv_aload_n hx hb dX5_set_0 rfl (lv_at hl 0 rfl) ?_
  refine lv_iload_n hx hb dX5_set_1 rfl (lv_at hl 1 rfl) ?_
  refine f_mV0 hx hb hml hown hts (m5_noRow l D dA am P T G L kt tr _  x ) (cwV 1 hts (lw_V q1637 q1639 qs33 q79 q1640) rfl rfl rfl (by decide +kernel) ⟨Nat.le_of_ble_eq_true rfl, Nat.le_of_ble_eq_true rfl⟩) hG hI MO_0 rfl rfl hl.1 rfl (Nat.le_of_ble_eq_true rfl) dX5_set_2 ⟨Nat.zero_le _, Nat.zero_le _⟩ (fun _ H locs _ hI => ?_)
  refine lv_istore (lv' := [(5, .int ((d5_noRow P x).1)), (0, .ref (am 0)), (1, .int x), (2, .int y), (3, .long v)]) hx hb dX5_set_5 hl (by decide) rfl (fun ls hl => ?_)
  refine lv_iload hx hb dX5_set_7 (lv_at hl 0 rfl) ?_
  refine lv_if_eq (tgt := 15) hx hb dX5_set_9 (by decide) (fun (c_9 : ((d5_noRow P x).1) = 0) => ?_) (fun (c_9 : ¬ (((d5_noRow P x).1) = 0)) => ?_)
  · obtain ⟨hno, jx, h_jx, rfl, hno2⟩ := noRow_ok c_9
    simp only [hno] at hI
    obtain ⟨rn, hrn, hre⟩ := hrow jx (by omega)
    refine lv_iload_n hx hb dX5_set_15 rfl (lv_at hl 3 rfl) ?_
    refine lv_i2l (v := y.toInt64) hx hb dX5_set_16 rfl ?_
    refine lv_lconst (v := 0) hx hb dX5_set_17 (by decide) ?_
    refine lv_aload_n hx hb dX5_set_18 rfl (lv_at hl 1 rfl) ?_
    refine f_get hx hb hts in_X5 hown hK hI.1 0 MO_0 rfl 2 (by decide) (hts _ q1512) (fun x h => h) rfl dX5_set_19 ?_
    refine lv_iload_n hx hb dX5_set_22 rfl (lv_at hl 2 rfl) ?_
    refine f_iald hx hb hK hI.1 3 0 MO_3 rfl jx rfl (by omega) (by decide) dX5_set_23 ?_
    refine lv_iconst (v := 1) hx hb dX5_set_24 (by decide) ?_
    refine lv_isub hx hb dX5_set_25 ?_
    refine lv_i2l (v := ((P 10 jx) - 1).toInt64) hx hb dX5_set_26 rfl ?_
    refine f_pS hx hb hml hown hts (m5_in l D dA (MO dA am P T G L kt tr)  y.toInt64 0 (((P 10 jx) - 1).toInt64) ) (va_cwS 3 hts (lw_S q1624 q1625 q79 q1626) rfl rfl rfl (by decide +kernel) ⟨Nat.le_of_ble_eq_true rfl, Nat.le_of_ble_eq_true rfl⟩) hG hI.1 f_id rfl hl.1 rfl (Nat.le_of_ble_eq_true rfl) dX5_set_27 ⟨Nat.zero_le _, Nat.zero_le _⟩ ?_
    refine lv_if_ne (tgt := 40) hx hb dX5_set_30 (by decide) (fun c_30 => ?_) (fun c_30 => ?_)
    · obtain ⟨jy, h_jy, rfl⟩ := in_natL c_30 hre (by omega)
      refine lv_aload_n hx hb dX5_set_40 rfl (lv_at hl 1 rfl) ?_
      refine f_get hx hb hts in_X5 hown hK hI.1 0 MO_0 rfl 3 (by decide) (hts _ q1513) (fun x h => h) rfl dX5_set_41 ?_
      refine lv_iload_n hx hb dX5_set_44 rfl (lv_at hl 2 rfl) ?_
      refine f_aldA hx hb hK hI.1 4 10 MO_4 rfl jx rfl (by omega) (by decide) rfl dX5_set_45 ?_
      refine lv_iload_n hx hb dX5_set_46 rfl (lv_at hl 3 rfl) ?_
      refine lv_aload_n hx hb dX5_set_47 rfl (lv_at hl 1 rfl) ?_
      refine f_get hx hb hts in_X5 hown hK hI.1 0 MO_0 rfl 1 (by decide) (hts _ q1511) (fun x h => h) rfl dX5_set_48 ?_
      refine lv_iload_n hx hb dX5_set_51 rfl (lv_at hl 2 rfl) ?_
      refine f_iald hx hb hK hI.1 2 0 MO_2 rfl jx rfl (by omega) (by decide) dX5_set_52 ?_
      refine lv_lload_n hx hb dX5_set_53 rfl (lv_at hl 4 rfl) ?_
      refine f_pS hx hb hml hown hts (m5_fit l D dA (MO dA am P T G L kt tr)  (P 9 jx) v ) (va_cwS 2 hts (lw_S q1641 q1642 q79 q1643) rfl rfl rfl (by decide +kernel) ⟨Nat.le_of_ble_eq_true rfl, Nat.le_of_ble_eq_true rfl⟩) hG hI.1 f_id rfl hl.1 rfl (Nat.le_of_ble_eq_true rfl) dX5_set_54 ⟨Nat.zero_le _, Nat.zero_le _⟩ ?_
      refine f_last hx hb hK hI (20 + jx) 3 (MO_row (by omega)) rfl jy rfl (by omega) (by decide) dX5_set_57 (fun H locs hI => ?_)
      have hI := hI.congr (MO_ar (by omega))
      refine lv_iconst (v := 1) hx hb dX5_set_58 (by decide) ?_
      have hE : (1, P, upL L jx jy (d5_fit (P 9 jx) v)) = d5_set P L (nI jx) (nI jy) v := (by unfold d5_set; (try simp only [cN_nI (show jx < 65536 by omega), cN_nI (show jy < 65536 by omega)]); rw [if_pos c_9, if_neg c_30])
      exact f_mreti hx hb hr hlocks hI dX5_set_59 () (congrArg (fun z => some (Value.int z.1)) hE) trivial (congrArg (fun z => MO dA am z.2.1 T G z.2.2 kt tr) hE)
    · refine lv_aload_n hx hb dX5_set_33 rfl (lv_at hl 1 rfl) ?_
      refine lv_bipush (v := -2) hx hb dX5_set_34 (by decide) ?_
      refine f_mV0 hx hb hml hown hts (m5_refuse l D dA am P T G L kt tr _  2 (by omega)) (cwV 1 hts (lw_V q1629 q1631 qs32 q79 q1632) rfl rfl rfl (by decide +kernel) ⟨Nat.le_of_ble_eq_true rfl, Nat.le_of_ble_eq_true rfl⟩) hG hI MO_0 rfl rfl hl.1 rfl (Nat.le_of_ble_eq_true rfl) dX5_set_36 ⟨Nat.zero_le _, Nat.zero_le _⟩ (fun _ H locs _ hI => ?_)
      have hE : (-(nI 2), up P 13 2 (P 13 2 + 1), L) = d5_set P L (nI jx) y v := (by unfold d5_set; (try simp only [cN_nI (show jx < 65536 by omega)]); rw [if_pos c_9, if_pos c_30])
      exact f_mreti hx hb hr hlocks hI dX5_set_39 () (congrArg (fun z => some (Value.int z.1)) hE) trivial (congrArg (fun z => MO dA am z.2.1 T G z.2.2 kt tr) hE)
  · refine lv_iload hx hb dX5_set_12 (lv_at hl 0 rfl) ?_
    have hE : ((d5_noRow P x).1, (d5_noRow P x).2, L) = d5_set P L x y v := (by unfold d5_set; rw [if_neg c_9])
    exact f_mreti hx hb hr hlocks hI dX5_set_14 () (congrArg (fun z => some (Value.int z.1)) hE) trivial (congrArg (fun z => MO dA am z.2.1 T G z.2.2 kt tr) hE)
def d5_element (P : Nat → Nat → Int32) (L : Nat → Nat → Int64) (x : Int32) (y : Int32) : Int64 := if (d5_in x.toInt64 0 7) = 0 then 0 else (if (P 8 (cN x)) = 1 then (if (d5_in y.toInt64 0 (((P 10 (cN x)) - 1).toInt64)) = 0 then 0 else L (cN x) (cN y)) else 0)
set_option maxHeartbeats 4000000 in
set_option maxRecDepth 100000 in
theorem m5_element (l : Launch) (D : va_G) (dA : Nat → ClassId) (am : Nat → Nat) (P T : Nat → Nat → Int32) (G : Nat → Int32) (L : Nat → Nat → Int64) (kt tr : Option Nat)  (x : Int32) (y : Int32) (hrow : ∀ i, i < 8 → ∃ n : Nat, n ≤ 40 ∧ P 10 i = nI n) : Met l yX5_element (ws_ yX5_element cX5_element 3 (some .long)) ({ frames := 1, cells := 0, slots := 0, locals := 25 } : Room) (fPc D dA (MO dA am P T G L kt tr) [.ref (am 0), .int x, .int y]) (fQp (.long (d5_element P L x y))) 0 0 (fun _ => False) := by
  refine Met.ofW (cc := cX5_element) (maxL := 3) (ret := (some .long)) (by decide) rfl ?_
  intro p e s m args below meth c s₁ B hml hv
  obtain ⟨rfl, hP, hG⟩ := hv
  have hK := hG.1
  have hx := B.exec
  have hb := B.bytes
  have hr := B.returns
  have hts := atoms_spec (ws := (ws_ yX5_element cX5_element 3 (some .long))) B.pre
  have hts : ∀ w ∈ lw_all, w.before _ s = true := fun w h => hts w (List.mem_cons_of_mem _ h)
  have hown : s.vm.findClass RX5 = some m.cls := findClass_of_methodNamed B.named
  have hlocks := B.notSynchronized
  have hl := lv_entry ([.ref (am 0), .int x, .int y]) (n := 3) (Nat.le_of_ble_eq_true rfl)
  rw [lg_entry_eq]
  generalize (lg_sl ([.ref (am 0), .int x, .int y]) ++ List.replicate (3 - (lg_sl ([.ref (am 0), .int x, .int y])).length) Slot.unset).toArray = ls at hl ⊢
  have hl : lv_has ls 3 [(0, .ref (am 0)), (1, .int x), (2, .int y)] := hl
  refine lv_iload_n hx hb dX5_element_0 rfl (lv_at hl 1 rfl) ?_
  refine lv_i2l (v := x.toInt64) hx hb dX5_element_1 rfl ?_
  refine lv_lconst (v := 0) hx hb dX5_element_2 (by decide) ?_
  refine lv_ldc2 (v := 7) hx hb hown (hts _ q1623) dX5_element_3 ?_
  refine f_pS hx hb hml hown hts (m5_in l D dA (MO dA am P T G L kt tr)  x.toInt64 0 7 ) (va_cwS 3 hts (lw_S q1624 q1625 q79 q1626) rfl rfl rfl (by decide +kernel) ⟨Nat.le_of_ble_eq_true rfl, Nat.le_of_ble_eq_true rfl⟩) hG hP f_id rfl hl.1 rfl (Nat.le_of_ble_eq_true rfl) dX5_element_6 ⟨Nat.zero_le _, Nat.zero_le _⟩ ?_
  refine lv_if_eq (tgt := 51) hx hb dX5_element_9 (by decide) (fun c_9 => ?_) (fun c_9 => ?_)
  · refine lv_lconst (v := 0) hx hb dX5_element_51 (by decide) ?_
    exact f_retl hx hb hr hlocks dX5_element_52 (by unfold d5_element; rw [if_pos c_9])
  · obtain ⟨jx, h_jx, rfl⟩ := in_nat c_9 (n := 7) (by decide) (by decide)
    refine lv_aload_n hx hb dX5_element_12 rfl (lv_at hl 0 rfl) ?_
    refine f_get hx hb hts in_X5 hown hK hP 0 MO_0 rfl 0 (by decide) (hts _ q1510) (fun x h => h) rfl dX5_element_13 ?_
    refine lv_iload_n hx hb dX5_element_16 rfl (lv_at hl 1 rfl) ?_
    refine f_iald hx hb hK hP 1 0 MO_1 rfl jx rfl (by omega) (by decide) dX5_element_17 ?_
    refine lv_iconst (v := 1) hx hb dX5_element_18 (by decide) ?_
    refine lv_icmp_ne (tgt := 51) hx hb dX5_element_19 (by decide) (fun c_19 => ?_) (fun c_19 => ?_)
    · refine lv_lconst (v := 0) hx hb dX5_element_51 (by decide) ?_
      exact f_retl hx hb hr hlocks dX5_element_52 (by unfold d5_element; (try simp only [cN_nI (show jx < 65536 by omega)]); rw [if_neg c_9, if_neg c_19])
    · obtain ⟨rn, hrn, hre⟩ := hrow jx (by omega)
      refine lv_iload_n hx hb dX5_element_22 rfl (lv_at hl 2 rfl) ?_
      refine lv_i2l (v := y.toInt64) hx hb dX5_element_23 rfl ?_
      refine lv_lconst (v := 0) hx hb dX5_element_24 (by decide) ?_
      refine lv_aload_n hx hb dX5_element_25 rfl (lv_at hl 0 rfl) ?_
      refine f_get hx hb hts in_X5 hown hK hP 0 MO_0 rfl 2 (by decide) (hts _ q1512) (fun x h => h) rfl dX5_element_26 ?_
      refine lv_iload_n hx hb dX5_element_29 rfl (lv_at hl 1 rfl) ?_
      refine f_iald hx hb hK hP 3 0 MO_3 rfl jx rfl (by omega) (by decide) dX5_element_30 ?_
      refine lv_iconst (v := 1) hx hb dX5_element_31 (by decide) ?_
      refine lv_isub hx hb dX5_element_32 ?_
      refine lv_i2l (v := ((P 10 jx) - 1).toInt64) hx hb dX5_element_33 rfl ?_
      refine f_pS hx hb hml hown hts (m5_in l D dA (MO dA am P T G L kt tr)  y.toInt64 0 (((P 10 jx) - 1).toInt64) ) (va_cwS 3 hts (lw_S q1624 q1625 q79 q1626) rfl rfl rfl (by decide +kernel) ⟨Nat.le_of_ble_eq_true rfl, Nat.le_of_ble_eq_true rfl⟩) hG hP f_id rfl hl.1 rfl (Nat.le_of_ble_eq_true rfl) dX5_element_34 ⟨Nat.zero_le _, Nat.zero_le _⟩ ?_
      refine lv_if_eq (tgt := 51) hx hb dX5_element_37 (by decide) (fun c_37 => ?_) (fun c_37 => ?_)
      · refine lv_lconst (v := 0) hx hb dX5_element_51 (by decide) ?_
        exact f_retl hx hb hr hlocks dX5_element_52 (by unfold d5_element; (try simp only [cN_nI (show jx < 65536 by omega)]); rw [if_neg c_9, if_pos c_19, if_pos c_37])
      · obtain ⟨jy, h_jy, rfl⟩ := in_natL c_37 hre (by omega)
        refine lv_aload_n hx hb dX5_element_40 rfl (lv_at hl 0 rfl) ?_
        refine f_get hx hb hts in_X5 hown hK hP 0 MO_0 rfl 3 (by decide) (hts _ q1513) (fun x h => h) rfl dX5_element_41 ?_
        refine lv_iload_n hx hb dX5_element_44 rfl (lv_at hl 1 rfl) ?_
        refine f_aldA hx hb hK hP 4 10 MO_4 rfl jx rfl (by omega) (by decide) rfl dX5_element_45 ?_
        refine lv_iload_n hx hb dX5_element_46 rfl (lv_at hl 2 rfl) ?_
        refine f_lald hx hb hK hP (20 + jx) 3 (MO_row (by omega)) rfl jy rfl (by omega) (by decide) dX5_element_47 ?_
        refine lv_goto (tgt := 52) hx hb dX5_element_48 (by decide) ?_
        exact f_retl hx hb hr hlocks dX5_element_52 (by unfold d5_element; (try simp only [cN_nI (show jx < 65536 by omega), cN_nI (show jy < 65536 by omega)]); rw [if_neg c_9, if_pos c_19, if_neg c_37])
def d5_holds (P : Nat → Nat → Int32) (x : Int32) : Int32 := if (d5_in x.toInt64 0 7) = 0 then (-1) else (if (P 8 (cN x)) = 0 then (-1) else (if (P 8 (cN x)) = 1 then P 9 (cN x) else 10 + (P 11 (cN x))))
set_option maxHeartbeats 4000000 in
set_option maxRecDepth 100000 in
theorem m5_holds (l : Launch) (D : va_G) (dA : Nat → ClassId) (am : Nat → Nat) (P T : Nat → Nat → Int32) (G : Nat → Int32) (L : Nat → Nat → Int64) (kt tr : Option Nat)  (x : Int32)  : Met l yX5_holds (ws_ yX5_holds cX5_holds 2 (some .int)) ({ frames := 1, cells := 0, slots := 0, locals := 25 } : Room) (fPc D dA (MO dA am P T G L kt tr) [.ref (am 0), .int x]) (fQp (.int (d5_holds P x))) 0 0 (fun _ => False) := by
  refine Met.ofW (cc := cX5_holds) (maxL := 2) (ret := (some .int)) (by decide) rfl ?_
  intro p e s m args below meth c s₁ B hml hv
  obtain ⟨rfl, hP, hG⟩ := hv
  have hK := hG.1
  have hx := B.exec
  have hb := B.bytes
  have hr := B.returns
  have hts := atoms_spec (ws := (ws_ yX5_holds cX5_holds 2 (some .int))) B.pre
  have hts : ∀ w ∈ lw_all, w.before _ s = true := fun w h => hts w (List.mem_cons_of_mem _ h)
  have hown : s.vm.findClass RX5 = some m.cls := findClass_of_methodNamed B.named
  have hlocks := B.notSynchronized
  have hl := lv_entry ([.ref (am 0), .int x]) (n := 2) (Nat.le_of_ble_eq_true rfl)
  rw [lg_entry_eq]
  generalize (lg_sl ([.ref (am 0), .int x]) ++ List.replicate (2 - (lg_sl ([.ref (am 0), .int x])).length) Slot.unset).toArray = ls at hl ⊢
  have hl : lv_has ls 2 [(0, .ref (am 0)), (1, .int x)] := hl
  refine lv_iload_n hx hb dX5_holds_0 rfl (lv_at hl 1 rfl) ?_
  refine lv_i2l (v := x.toInt64) hx hb dX5_holds_1 rfl ?_
  refine lv_lconst (v := 0) hx hb dX5_holds_2 (by decide) ?_
  refine lv_ldc2 (v := 7) hx hb hown (hts _ q1623) dX5_holds_3 ?_
  refine f_pS hx hb hml hown hts (m5_in l D dA (MO dA am P T G L kt tr)  x.toInt64 0 7 ) (va_cwS 3 hts (lw_S q1624 q1625 q79 q1626) rfl rfl rfl (by decide +kernel) ⟨Nat.le_of_ble_eq_true rfl, Nat.le_of_ble_eq_true rfl⟩) hG hP f_id rfl hl.1 rfl (Nat.le_of_ble_eq_true rfl) dX5_holds_6 ⟨Nat.zero_le _, Nat.zero_le _⟩ ?_
  refine lv_if_eq (tgt := 21) hx hb dX5_holds_9 (by decide) (fun c_9 => ?_) (fun c_9 => ?_)
  · refine lv_iconst (v := -1) hx hb dX5_holds_21 (by decide) ?_
    exact f_reti hx hb hr hlocks dX5_holds_22 (by unfold d5_holds; rw [if_pos c_9])
  · obtain ⟨jx, h_jx, rfl⟩ := in_nat c_9 (n := 7) (by decide) (by decide)
    refine lv_aload_n hx hb dX5_holds_12 rfl (lv_at hl 0 rfl) ?_
    refine f_get hx hb hts in_X5 hown hK hP 0 MO_0 rfl 0 (by decide) (hts _ q1510) (fun x h => h) rfl dX5_holds_13 ?_
    refine lv_iload_n hx hb dX5_holds_16 rfl (lv_at hl 1 rfl) ?_
    refine f_iald hx hb hK hP 1 0 MO_1 rfl jx rfl (by omega) (by decide) dX5_holds_17 ?_
    refine lv_if_ne (tgt := 23) hx hb dX5_holds_18 (by decide) (fun c_18 => ?_) (fun c_18 => ?_)
    · refine lv_aload_n hx hb dX5_holds_23 rfl (lv_at hl 0 rfl) ?_
      refine f_get hx hb hts in_X5 hown hK hP 0 MO_0 rfl 0 (by decide) (hts _ q1510) (fun x h => h) rfl dX5_holds_24 ?_
      refine lv_iload_n hx hb dX5_holds_27 rfl (lv_at hl 1 rfl) ?_
      refine f_iald hx hb hK hP 1 0 MO_1 rfl jx rfl (by omega) (by decide) dX5_holds_28 ?_
      refine lv_iconst (v := 1) hx hb dX5_holds_29 (by decide) ?_
      refine lv_icmp_ne (tgt := 42) hx hb dX5_holds_30 (by decide) (fun c_30 => ?_) (fun c_30 => ?_)
      · refine lv_bipush (v := 10) hx hb dX5_holds_42 (by decide) ?_
        refine lv_aload_n hx hb dX5_holds_44 rfl (lv_at hl 0 rfl) ?_
        refine f_get hx hb hts in_X5 hown hK hP 0 MO_0 rfl 5 (by decide) (hts _ q1515) (fun x h => h) rfl dX5_holds_45 ?_
        refine lv_iload_n hx hb dX5_holds_48 rfl (lv_at hl 1 rfl) ?_
        refine f_iald hx hb hK hP 6 0 MO_6 rfl jx rfl (by omega) (by decide) dX5_holds_49 ?_
        refine lv_iadd hx hb dX5_holds_50 ?_
        exact f_reti hx hb hr hlocks dX5_holds_51 (by unfold d5_holds; (try simp only [cN_nI (show jx < 65536 by omega)]); rw [if_neg c_9, if_neg c_18, if_neg c_30])
      · refine lv_aload_n hx hb dX5_holds_33 rfl (lv_at hl 0 rfl) ?_
        refine f_get hx hb hts in_X5 hown hK hP 0 MO_0 rfl 1 (by decide) (hts _ q1511) (fun x h => h) rfl dX5_holds_34 ?_
        refine lv_iload_n hx hb dX5_holds_37 rfl (lv_at hl 1 rfl) ?_
        refine f_iald hx hb hK hP 2 0 MO_2 rfl jx rfl (by omega) (by decide) dX5_holds_38 ?_
        refine lv_goto (tgt := 51) hx hb dX5_holds_39 (by decide) ?_
        exact f_reti hx hb hr hlocks dX5_holds_51 (by unfold d5_holds; (try simp only [cN_nI (show jx < 65536 by omega)]); rw [if_neg c_9, if_neg c_18, if_pos c_30])
    · refine lv_iconst (v := -1) hx hb dX5_holds_21 (by decide) ?_
      exact f_reti hx hb hr hlocks dX5_holds_22 (by unfold d5_holds; (try simp only [cN_nI (show jx < 65536 by omega)]); rw [if_neg c_9, if_pos c_18])
def d5_show (P : Nat → Nat → Int32) (x : Int32) (y : Int32) : Int32 × (Nat → Nat → Int32) := if (d5_in x.toInt64 0 7) = 0 then (-(nI 2), up P 13 2 (P 13 2 + 1)) else (if y = (-1) then (1, up (up P 8 (cN x) 0) 11 (cN x) y) else (if (d5_isWay P y.toInt64) = 0 then (-(nI 2), up P 13 2 (P 13 2 + 1)) else (if (y) = (-1) then (1, up (up P 8 (cN x) 0) 11 (cN x) (y)) else (1, up (up P 8 (cN x) 2) 11 (cN x) (y)))))
set_option maxHeartbeats 4000000 in
set_option maxRecDepth 100000 in
theorem m5_show (l : Launch) (D : va_G) (dA : Nat → ClassId) (am : Nat → Nat) (P T : Nat → Nat → Int32) (G : Nat → Int32) (L : Nat → Nat → Int64) (kt tr : Option Nat) (sz : Nat) (Wn : Nat) (x : Int32) (y : Int32) (hwt : P 7 1 = nI Wn) (hW : Wn ≤ 6) : Met l yX5_show (ws_ yX5_show cX5_show 3 (some .int)) ({ frames := 2, cells := 0, slots := 0, locals := 47 } : Room) (fPm D dA (MO dA am P T G L kt tr) sz [.ref (am 0), .int x, .int y]) (fQm (S := Unit) D (MO dA am P T G L kt tr) sz (fun _ => some (.int ((d5_show P x y).1))) (fun _ => True) (fun _ => MO dA am ((d5_show P x y).2) T G L kt tr)) 0 0 (fA (MO dA am P T G L kt tr) sz) := by
  refine Met.ofW (cc := cX5_show) (maxL := 3) (ret := (some .int)) (by decide) rfl ?_
  intro p e s m args below meth c s₁ B hml hv
  obtain ⟨rfl, hsz, hP0, hG, hD0⟩ := hv
  have hK := hG.1
  have hx := B.exec
  have hb := B.bytes
  have hr := B.returns
  have hts := atoms_spec (ws := (ws_ yX5_show cX5_show 3 (some .int))) B.pre
  have hts : ∀ w ∈ lw_all, w.before _ s = true := fun w h => hts w (List.mem_cons_of_mem _ h)
  have hown : s.vm.findClass RX5 = some m.cls := findClass_of_methodNamed B.named
  have hlocks := B.notSynchronized
  subst hsz
  have hI := FI.start hP0 hD0
  have hl := lv_entry ([.ref (am 0), .int x, .int y]) (n := 3) (Nat.le_of_ble_eq_true rfl)
  rw [lg_entry_eq]
  generalize (lg_sl ([.ref (am 0), .int x, .int y]) ++ List.replicate (3 - (lg_sl ([.ref (am 0), .int x, .int y])).length) Slot.unset).toArray = ls at hl ⊢
  have hl : lv_has ls 3 [(0, .ref (am 0)), (1, .int x), (2, .int y)] := hl
  refine lv_iload_n hx hb dX5_show_0 rfl (lv_at hl 1 rfl) ?_
  refine lv_i2l (v := x.toInt64) hx hb dX5_show_1 rfl ?_
  refine lv_lconst (v := 0) hx hb dX5_show_2 (by decide) ?_
  refine lv_ldc2 (v := 7) hx hb hown (hts _ q1623) dX5_show_3 ?_
  refine f_pS hx hb hml hown hts (m5_in l D dA (MO dA am P T G L kt tr)  x.toInt64 0 7 ) (va_cwS 3 hts (lw_S q1624 q1625 q79 q1626) rfl rfl rfl (by decide +kernel) ⟨Nat.le_of_ble_eq_true rfl, Nat.le_of_ble_eq_true rfl⟩) hG hI.1 f_id rfl hl.1 rfl (Nat.le_of_ble_eq_true rfl) dX5_show_6 ⟨Nat.zero_le _, Nat.zero_le _⟩ ?_
  refine lv_if_eq (tgt := 26) hx hb dX5_show_9 (by decide) (fun c_9 => ?_) (fun c_9 => ?_)
  · refine lv_aload_n hx hb dX5_show_26 rfl (lv_at hl 0 rfl) ?_
    refine lv_bipush (v := -2) hx hb dX5_show_27 (by decide) ?_
    refine f_mV0 hx hb hml hown hts (m5_refuse l D dA am P T G L kt tr _  2 (by omega)) (cwV 1 hts (lw_V q1629 q1631 qs32 q79 q1632) rfl rfl rfl (by decide +kernel) ⟨Nat.le_of_ble_eq_true rfl, Nat.le_of_ble_eq_true rfl⟩) hG hI MO_0 rfl rfl hl.1 rfl (Nat.le_of_ble_eq_true rfl) dX5_show_29 ⟨Nat.zero_le _, Nat.zero_le _⟩ (fun _ H locs _ hI => ?_)
    have hE : (-(nI 2), up P 13 2 (P 13 2 + 1)) = d5_show P x y := (by unfold d5_show; rw [if_pos c_9])
    exact f_mreti hx hb hr hlocks hI dX5_show_32 () (congrArg (fun z => some (Value.int z.1)) hE) trivial (congrArg (fun z => MO dA am z.2 T G L kt tr) hE)
  · obtain ⟨jx, h_jx, rfl⟩ := in_nat c_9 (n := 7) (by decide) (by decide)
    refine lv_iload_n hx hb dX5_show_12 rfl (lv_at hl 2 rfl) ?_
    refine lv_iconst (v := -1) hx hb dX5_show_13 (by decide) ?_
    refine lv_icmp_eq (tgt := 33) hx hb dX5_show_14 (by decide) (fun c_14 => ?_) (fun c_14 => ?_)
    · refine lv_aload_n hx hb dX5_show_33 rfl (lv_at hl 0 rfl) ?_
      refine f_get hx hb hts in_X5 hown hK hI.1 0 MO_0 rfl 0 (by decide) (hts _ q1510) (fun x h => h) rfl dX5_show_34 ?_
      refine lv_iload_n hx hb dX5_show_37 rfl (lv_at hl 1 rfl) ?_
      refine lv_iload_n hx hb dX5_show_38 rfl (lv_at hl 2 rfl) ?_
      refine lv_iconst (v := -1) hx hb dX5_show_39 (by decide) ?_
      refine lv_icmp_ne (tgt := 47) hx hb dX5_show_40 (by decide) (fun h => absurd c_14 h) (fun _ => ?_)
      refine lv_iconst (v := 0) hx hb dX5_show_43 (by decide) ?_
      refine lv_goto (tgt := 48) hx hb dX5_show_44 (by decide) ?_
      refine f_iast hx hb hK hI 1 0 MO_1 rfl jx rfl (by omega) (by decide) dX5_show_48 (fun H locs hI => ?_)
      have hI := hI.congr MO_a1
      refine lv_aload_n hx hb dX5_show_49 rfl (lv_at hl 0 rfl) ?_
      refine f_get hx hb hts in_X5 hown hK hI.1 0 MO_0 rfl 5 (by decide) (hts _ q1515) (fun x h => h) rfl dX5_show_50 ?_
      refine lv_iload_n hx hb dX5_show_53 rfl (lv_at hl 1 rfl) ?_
      refine lv_iload_n hx hb dX5_show_54 rfl (lv_at hl 2 rfl) ?_
      refine f_iast hx hb hK hI 6 0 MO_6 rfl jx rfl (by omega) (by decide) dX5_show_55 (fun H locs hI => ?_)
      have hI := hI.congr MO_a6
      refine lv_iconst (v := 1) hx hb dX5_show_56 (by decide) ?_
      have hE : (1, up (up P 8 jx 0) 11 jx y) = d5_show P (nI jx) y := (by unfold d5_show; (try simp only [cN_nI (show jx < 65536 by omega)]); rw [if_neg c_9, if_pos c_14])
      exact f_mreti hx hb hr hlocks hI dX5_show_57 () (congrArg (fun z => some (Value.int z.1)) hE) trivial (congrArg (fun z => MO dA am z.2 T G L kt tr) hE)
    · refine lv_aload_n hx hb dX5_show_17 rfl (lv_at hl 0 rfl) ?_
      refine lv_iload_n hx hb dX5_show_18 rfl (lv_at hl 2 rfl) ?_
      refine lv_i2l (v := y.toInt64) hx hb dX5_show_19 rfl ?_
      refine f_pV hx hb hml hown hts (m5_isWay l D dA am P T G L kt tr  y.toInt64 ) (cwV 1 hts (lw_V q1660 q1662 qs34 q79 q1663) rfl rfl rfl (by decide +kernel) ⟨Nat.le_of_ble_eq_true rfl, Nat.le_of_ble_eq_true rfl⟩) hG hI.1 f_id MO_0 rfl rfl hl.1 rfl (Nat.le_of_ble_eq_true rfl) dX5_show_20 ⟨Nat.zero_le _, Nat.zero_le _⟩ ?_
      refine lv_if_ne (tgt := 33) hx hb dX5_show_23 (by decide) (fun c_23 => ?_) (fun c_23 => ?_)
      · obtain ⟨jy, h_jy, rfl⟩ := isWay_natI c_23 hwt hW
        refine lv_aload_n hx hb dX5_show_33 rfl (lv_at hl 0 rfl) ?_
        refine f_get hx hb hts in_X5 hown hK hI.1 0 MO_0 rfl 0 (by decide) (hts _ q1510) (fun x h => h) rfl dX5_show_34 ?_
        refine lv_iload_n hx hb dX5_show_37 rfl (lv_at hl 1 rfl) ?_
        refine lv_iload_n hx hb dX5_show_38 rfl (lv_at hl 2 rfl) ?_
        refine lv_iconst (v := -1) hx hb dX5_show_39 (by decide) ?_
        refine lv_icmp_ne (tgt := 47) hx hb dX5_show_40 (by decide) (fun c_40 => ?_) (fun c_40 => ?_)
        · refine lv_iconst (v := 2) hx hb dX5_show_47 (by decide) ?_
          refine f_iast hx hb hK hI 1 0 MO_1 rfl jx rfl (by omega) (by decide) dX5_show_48 (fun H locs hI => ?_)
          have hI := hI.congr MO_a1
          refine lv_aload_n hx hb dX5_show_49 rfl (lv_at hl 0 rfl) ?_
          refine f_get hx hb hts in_X5 hown hK hI.1 0 MO_0 rfl 5 (by decide) (hts _ q1515) (fun x h => h) rfl dX5_show_50 ?_
          refine lv_iload_n hx hb dX5_show_53 rfl (lv_at hl 1 rfl) ?_
          refine lv_iload_n hx hb dX5_show_54 rfl (lv_at hl 2 rfl) ?_
          refine f_iast hx hb hK hI 6 0 MO_6 rfl jx rfl (by omega) (by decide) dX5_show_55 (fun H locs hI => ?_)
          have hI := hI.congr MO_a6
          refine lv_iconst (v := 1) hx hb dX5_show_56 (by decide) ?_
          have hE : (1, up (up P 8 jx 2) 11 jx (nI jy)) = d5_show P (nI jx) (nI jy) := (by unfold d5_show; (try simp only [cN_nI (show jx < 65536 by omega), cN_nI (show jy < 65536 by omega)]); rw [if_neg c_9, if_neg c_14, if_neg c_23, if_neg c_40])
          exact f_mreti hx hb hr hlocks hI dX5_show_57 () (congrArg (fun z => some (Value.int z.1)) hE) trivial (congrArg (fun z => MO dA am z.2 T G L kt tr) hE)
        · refine lv_iconst (v := 0) hx hb dX5_show_43 (by decide) ?_
          refine lv_goto (tgt := 48) hx hb dX5_show_44 (by decide) ?_
          refine f_iast hx hb hK hI 1 0 MO_1 rfl jx rfl (by omega) (by decide) dX5_show_48 (fun H locs hI => ?_)
          have hI := hI.congr MO_a1
          refine lv_aload_n hx hb dX5_show_49 rfl (lv_at hl 0 rfl) ?_
          refine f_get hx hb hts in_X5 hown hK hI.1 0 MO_0 rfl 5 (by decide) (hts _ q1515) (fun x h => h) rfl dX5_show_50 ?_
          refine lv_iload_n hx hb dX5_show_53 rfl (lv_at hl 1 rfl) ?_
          refine lv_iload_n hx hb dX5_show_54 rfl (lv_at hl 2 rfl) ?_
          refine f_iast hx hb hK hI 6 0 MO_6 rfl jx rfl (by omega) (by decide) dX5_show_55 (fun H locs hI => ?_)
          have hI := hI.congr MO_a6
          refine lv_iconst (v := 1) hx hb dX5_show_56 (by decide) ?_
          have hE : (1, up (up P 8 jx 0) 11 jx (nI jy)) = d5_show P (nI jx) (nI jy) := (by unfold d5_show; (try simp only [cN_nI (show jx < 65536 by omega), cN_nI (show jy < 65536 by omega)]); rw [if_neg c_9, if_neg c_14, if_neg c_23, if_pos c_40])
          exact f_mreti hx hb hr hlocks hI dX5_show_57 () (congrArg (fun z => some (Value.int z.1)) hE) trivial (congrArg (fun z => MO dA am z.2 T G L kt tr) hE)
      · refine lv_aload_n hx hb dX5_show_26 rfl (lv_at hl 0 rfl) ?_
        refine lv_bipush (v := -2) hx hb dX5_show_27 (by decide) ?_
        refine f_mV0 hx hb hml hown hts (m5_refuse l D dA am P T G L kt tr _  2 (by omega)) (cwV 1 hts (lw_V q1629 q1631 qs32 q79 q1632) rfl rfl rfl (by decide +kernel) ⟨Nat.le_of_ble_eq_true rfl, Nat.le_of_ble_eq_true rfl⟩) hG hI MO_0 rfl rfl hl.1 rfl (Nat.le_of_ble_eq_true rfl) dX5_show_29 ⟨Nat.zero_le _, Nat.zero_le _⟩ (fun _ H locs _ hI => ?_)
        have hE : (-(nI 2), up P 13 2 (P 13 2 + 1)) = d5_show P (nI jx) y := (by unfold d5_show; (try simp only [cN_nI (show jx < 65536 by omega)]); rw [if_neg c_9, if_neg c_14, if_pos c_23])
        exact f_mreti hx hb hr hlocks hI dX5_show_32 () (congrArg (fun z => some (Value.int z.1)) hE) trivial (congrArg (fun z => MO dA am z.2 T G L kt tr) hE)
def d5_step (P : Nat → Nat → Int32) (x : Int32) (y : Int32) (S : Nat) : Int32 × (Nat → Nat → Int32) := if (d5_in x.toInt64 1 20) = 0 then (-(nI 2), up P 13 2 (P 13 2 + 1)) else (if (P 7 0) = 9 then (-(nI 6), up P 13 6 (P 13 6 + 1)) else (P 7 0, up (up (up (up (up P 0 S x) 1 S (vp_nar .boolean 0)) 2 S (vp_nar .boolean 0)) 3 S (vp_nar .boolean y)) 7 0 ((P 7 0) + 1)))
set_option maxHeartbeats 4000000 in
set_option maxRecDepth 100000 in
theorem m5_step (l : Launch) (D : va_G) (dA : Nat → ClassId) (am : Nat → Nat) (P T : Nat → Nat → Int32) (G : Nat → Int32) (L : Nat → Nat → Int64) (kt tr : Option Nat) (sz : Nat) (S : Nat) (x : Int32) (y : Int32) (hst : P 7 0 = nI S) (hS : S ≤ 9) : Met l yX5_step (ws_ yX5_step cX5_step 3 (some .int)) ({ frames := 1, cells := 0, slots := 0, locals := 25 } : Room) (fPm D dA (MO dA am P T G L kt tr) sz [.ref (am 0), .int x, .int y]) (fQm (S := Unit) D (MO dA am P T G L kt tr) sz (fun _ => some (.int ((d5_step P x y S).1))) (fun _ => True) (fun _ => MO dA am ((d5_step P x y S).2) T G L kt tr)) 0 0 (fA (MO dA am P T G L kt tr) sz) := by
  refine Met.ofW (cc := cX5_step) (maxL := 3) (ret := (some .int)) (by decide) rfl ?_
  intro p e s m args below meth c s₁ B hml hv
  obtain ⟨rfl, hsz, hP0, hG, hD0⟩ := hv
  have hK := hG.1
  have hx := B.exec
  have hb := B.bytes
  have hr := B.returns
  have hts := atoms_spec (ws := (ws_ yX5_step cX5_step 3 (some .int))) B.pre
  have hts : ∀ w ∈ lw_all, w.before _ s = true := fun w h => hts w (List.mem_cons_of_mem _ h)
  have hown : s.vm.findClass RX5 = some m.cls := findClass_of_methodNamed B.named
  have hlocks := B.notSynchronized
  subst hsz
  have hI := FI.start hP0 hD0
  have hl := lv_entry ([.ref (am 0), .int x, .int y]) (n := 3) (Nat.le_of_ble_eq_true rfl)
  rw [lg_entry_eq]
  generalize (lg_sl ([.ref (am 0), .int x, .int y]) ++ List.replicate (3 - (lg_sl ([.ref (am 0), .int x, .int y])).length) Slot.unset).toArray = ls at hl ⊢
  have hl : lv_has ls 3 [(0, .ref (am 0)), (1, .int x), (2, .int y)] := hl
  refine lv_iload_n hx hb dX5_step_0 rfl (lv_at hl 1 rfl) ?_
  refine lv_i2l (v := x.toInt64) hx hb dX5_step_1 rfl ?_
  refine lv_lconst (v := 1) hx hb dX5_step_2 (by decide) ?_
  refine lv_ldc2 (v := 20) hx hb hown (hts _ q1692) dX5_step_3 ?_
  refine f_pS hx hb hml hown hts (m5_in l D dA (MO dA am P T G L kt tr)  x.toInt64 1 20 ) (va_cwS 3 hts (lw_S q1624 q1625 q79 q1626) rfl rfl rfl (by decide +kernel) ⟨Nat.le_of_ble_eq_true rfl, Nat.le_of_ble_eq_true rfl⟩) hG hI.1 f_id rfl hl.1 rfl (Nat.le_of_ble_eq_true rfl) dX5_step_6 ⟨Nat.zero_le _, Nat.zero_le _⟩ ?_
  refine lv_if_ne (tgt := 19) hx hb dX5_step_9 (by decide) (fun c_9 => ?_) (fun c_9 => ?_)
  · refine lv_aload_n hx hb dX5_step_19 rfl (lv_at hl 0 rfl) ?_
    refine f_get hx hb hts in_X5 hown hK hI.1 0 MO_0 rfl 9 (by decide) (hts _ q1519) (fun x h => h) rfl dX5_step_20 ?_
    refine lv_bipush (v := 9) hx hb dX5_step_23 (by decide) ?_
    refine lv_icmp_ne (tgt := 35) hx hb dX5_step_25 (by decide) (fun c_25 => ?_) (fun c_25 => ?_)
    · have e_25 := (not_congr (nat_eq (a := S) (b := 9) hst rfl (by omega) (by omega))).mp c_25
      refine lv_aload_n hx hb dX5_step_35 rfl (lv_at hl 0 rfl) ?_
      refine f_get hx hb hts in_X5 hown hK hI.1 0 MO_0 rfl 10 (by decide) (hts _ q1520) (fun x h => h) rfl dX5_step_36 ?_
      refine lv_aload_n hx hb dX5_step_39 rfl (lv_at hl 0 rfl) ?_
      refine f_get hx hb hts in_X5 hown hK hI.1 0 MO_0 rfl 9 (by decide) (hts _ q1519) (fun x h => h) rfl dX5_step_40 ?_
      refine lv_iload_n hx hb dX5_step_43 rfl (lv_at hl 1 rfl) ?_
      refine f_iast hx hb hK hI 9 0 MO_9 rfl S hst (by omega) (by decide) dX5_step_44 (fun H locs hI => ?_)
      have hI := hI.congr MO_a9
      refine lv_aload_n hx hb dX5_step_45 rfl (lv_at hl 0 rfl) ?_
      refine f_get hx hb hts in_X5 hown hK hI.1 0 MO_0 rfl 11 (by decide) (hts _ q1521) (fun x h => h) rfl dX5_step_46 ?_
      refine lv_aload_n hx hb dX5_step_49 rfl (lv_at hl 0 rfl) ?_
      refine f_get hx hb hts in_X5 hown hK hI.1 0 MO_0 rfl 9 (by decide) (hts _ q1519) (fun x h => h) rfl dX5_step_50 ?_
      refine lv_iconst (v := 0) hx hb dX5_step_53 (by decide) ?_
      refine f_zast hx hb hK hI 10 4 MO_10 rfl S hst (by omega) (by decide) dX5_step_54 (fun H locs hI => ?_)
      have hI := hI.congr MO_a10
      refine lv_aload_n hx hb dX5_step_55 rfl (lv_at hl 0 rfl) ?_
      refine f_get hx hb hts in_X5 hown hK hI.1 0 MO_0 rfl 12 (by decide) (hts _ q1522) (fun x h => h) rfl dX5_step_56 ?_
      refine lv_aload_n hx hb dX5_step_59 rfl (lv_at hl 0 rfl) ?_
      refine f_get hx hb hts in_X5 hown hK hI.1 0 MO_0 rfl 9 (by decide) (hts _ q1519) (fun x h => h) rfl dX5_step_60 ?_
      refine lv_iconst (v := 0) hx hb dX5_step_63 (by decide) ?_
      refine f_zast hx hb hK hI 11 4 MO_11 rfl S hst (by omega) (by decide) dX5_step_64 (fun H locs hI => ?_)
      have hI := hI.congr MO_a11
      refine lv_aload_n hx hb dX5_step_65 rfl (lv_at hl 0 rfl) ?_
      refine f_get hx hb hts in_X5 hown hK hI.1 0 MO_0 rfl 13 (by decide) (hts _ q1523) (fun x h => h) rfl dX5_step_66 ?_
      refine lv_aload_n hx hb dX5_step_69 rfl (lv_at hl 0 rfl) ?_
      refine f_get hx hb hts in_X5 hown hK hI.1 0 MO_0 rfl 9 (by decide) (hts _ q1519) (fun x h => h) rfl dX5_step_70 ?_
      refine lv_iload_n hx hb dX5_step_73 rfl (lv_at hl 2 rfl) ?_
      refine f_zast hx hb hK hI 12 4 MO_12 rfl S hst (by omega) (by decide) dX5_step_74 (fun H locs hI => ?_)
      have hI := hI.congr MO_a12
      refine lv_aload_n hx hb dX5_step_75 rfl (lv_at hl 0 rfl) ?_
      refine lv_dup hx hb dX5_step_76 rfl ?_
      refine f_get hx hb hts in_X5 hown hK hI.1 0 MO_0 rfl 9 (by decide) (hts _ q1519) (fun x h => h) rfl dX5_step_77 ?_
      refine lv_dup_x1 hx hb dX5_step_80 rfl rfl ?_
      refine lv_iconst (v := 1) hx hb dX5_step_81 (by decide) ?_
      refine lv_iadd hx hb dX5_step_82 ?_
      refine f_put hx hb hts in_X5 tyX5 tyX5_ok nmX5 hown hK hI 0 MO_0 rfl 9 (by decide) (hts _ q1519) (fun x h => h) rfl (ttyX5_9) rfl rfl (Nat.le_of_ble_eq_true rfl) dX5_step_83 (fun H locs hI => ?_)
      have hI := hI.congr MO_f9
      have hE : (P 7 0, up (up (up (up (up P 0 S x) 1 S (vp_nar .boolean 0)) 2 S (vp_nar .boolean 0)) 3 S (vp_nar .boolean y)) 7 0 ((P 7 0) + 1)) = d5_step P x y S := (by unfold d5_step; rw [if_neg c_9, if_neg c_25])
      exact f_mreti hx hb hr hlocks hI dX5_step_86 () (congrArg (fun z => some (Value.int z.1)) hE) trivial (congrArg (fun z => MO dA am z.2 T G L kt tr) hE)
    · have e_25 := (nat_eq (a := S) (b := 9) hst rfl (by omega) (by omega)).mp c_25
      refine lv_aload_n hx hb dX5_step_28 rfl (lv_at hl 0 rfl) ?_
      refine lv_bipush (v := -6) hx hb dX5_step_29 (by decide) ?_
      refine f_mV0 hx hb hml hown hts (m5_refuse l D dA am P T G L kt tr _  6 (by omega)) (cwV 1 hts (lw_V q1629 q1631 qs32 q79 q1632) rfl rfl rfl (by decide +kernel) ⟨Nat.le_of_ble_eq_true rfl, Nat.le_of_ble_eq_true rfl⟩) hG hI MO_0 rfl rfl hl.1 rfl (Nat.le_of_ble_eq_true rfl) dX5_step_31 ⟨Nat.zero_le _, Nat.zero_le _⟩ (fun _ H locs _ hI => ?_)
      have hE : (-(nI 6), up P 13 6 (P 13 6 + 1)) = d5_step P x y S := (by unfold d5_step; rw [if_neg c_9, if_pos c_25])
      exact f_mreti hx hb hr hlocks hI dX5_step_34 () (congrArg (fun z => some (Value.int z.1)) hE) trivial (congrArg (fun z => MO dA am z.2 T G L kt tr) hE)
  · refine lv_aload_n hx hb dX5_step_12 rfl (lv_at hl 0 rfl) ?_
    refine lv_bipush (v := -2) hx hb dX5_step_13 (by decide) ?_
    refine f_mV0 hx hb hml hown hts (m5_refuse l D dA am P T G L kt tr _  2 (by omega)) (cwV 1 hts (lw_V q1629 q1631 qs32 q79 q1632) rfl rfl rfl (by decide +kernel) ⟨Nat.le_of_ble_eq_true rfl, Nat.le_of_ble_eq_true rfl⟩) hG hI MO_0 rfl rfl hl.1 rfl (Nat.le_of_ble_eq_true rfl) dX5_step_15 ⟨Nat.zero_le _, Nat.zero_le _⟩ (fun _ H locs _ hI => ?_)
    have hE : (-(nI 2), up P 13 2 (P 13 2 + 1)) = d5_step P x y S := (by unfold d5_step; rw [if_pos c_9])
    exact f_mreti hx hb hr hlocks hI dX5_step_18 () (congrArg (fun z => some (Value.int z.1)) hE) trivial (congrArg (fun z => MO dA am z.2 T G L kt tr) hE)
def d5_way (P : Nat → Nat → Int32) (x : Int32) (y : Int32) (Wn : Nat) : Int32 × (Nat → Nat → Int32) := if (d5_in x.toInt64 0 5) = 0 then (-(nI 2), up P 13 2 (P 13 2 + 1)) else (if (d5_in y.toInt64 0 10) = 0 then (-(nI 2), up P 13 2 (P 13 2 + 1)) else (if (P 7 1) = 6 then (-(nI 6), up P 13 6 (P 13 6 + 1)) else (P 7 1, up (up (up P 4 Wn (x)) 5 Wn (y)) 7 1 ((P 7 1) + 1))))
set_option maxHeartbeats 4000000 in
set_option maxRecDepth 100000 in
theorem m5_way (l : Launch) (D : va_G) (dA : Nat → ClassId) (am : Nat → Nat) (P T : Nat → Nat → Int32) (G : Nat → Int32) (L : Nat → Nat → Int64) (kt tr : Option Nat) (sz : Nat) (Wn : Nat) (x : Int32) (y : Int32) (hwt : P 7 1 = nI Wn) (hW : Wn ≤ 6) : Met l yX5_way (ws_ yX5_way cX5_way 3 (some .int)) ({ frames := 1, cells := 0, slots := 0, locals := 25 } : Room) (fPm D dA (MO dA am P T G L kt tr) sz [.ref (am 0), .int x, .int y]) (fQm (S := Unit) D (MO dA am P T G L kt tr) sz (fun _ => some (.int ((d5_way P x y Wn).1))) (fun _ => True) (fun _ => MO dA am ((d5_way P x y Wn).2) T G L kt tr)) 0 0 (fA (MO dA am P T G L kt tr) sz) := by
  refine Met.ofW (cc := cX5_way) (maxL := 3) (ret := (some .int)) (by decide) rfl ?_
  intro p e s m args below meth c s₁ B hml hv
  obtain ⟨rfl, hsz, hP0, hG, hD0⟩ := hv
  have hK := hG.1
  have hx := B.exec
  have hb := B.bytes
  have hr := B.returns
  have hts := atoms_spec (ws := (ws_ yX5_way cX5_way 3 (some .int))) B.pre
  have hts : ∀ w ∈ lw_all, w.before _ s = true := fun w h => hts w (List.mem_cons_of_mem _ h)
  have hown : s.vm.findClass RX5 = some m.cls := findClass_of_methodNamed B.named
  have hlocks := B.notSynchronized
  subst hsz
  have hI := FI.start hP0 hD0
  have hl := lv_entry ([.ref (am 0), .int x, .int y]) (n := 3) (Nat.le_of_ble_eq_true rfl)
  rw [lg_entry_eq]
  generalize (lg_sl ([.ref (am 0), .int x, .int y]) ++ List.replicate (3 - (lg_sl ([.ref (am 0), .int x, .int y])).length) Slot.unset).toArray = ls at hl ⊢
  have hl : lv_has ls 3 [(0, .ref (am 0)), (1, .int x), (2, .int y)] := hl
  refine lv_iload_n hx hb dX5_way_0 rfl (lv_at hl 1 rfl) ?_
  refine lv_i2l (v := x.toInt64) hx hb dX5_way_1 rfl ?_
  refine lv_lconst (v := 0) hx hb dX5_way_2 (by decide) ?_
  refine lv_ldc2 (v := 5) hx hb hown (hts _ q1668) dX5_way_3 ?_
  refine f_pS hx hb hml hown hts (m5_in l D dA (MO dA am P T G L kt tr)  x.toInt64 0 5 ) (va_cwS 3 hts (lw_S q1624 q1625 q79 q1626) rfl rfl rfl (by decide +kernel) ⟨Nat.le_of_ble_eq_true rfl, Nat.le_of_ble_eq_true rfl⟩) hG hI.1 f_id rfl hl.1 rfl (Nat.le_of_ble_eq_true rfl) dX5_way_6 ⟨Nat.zero_le _, Nat.zero_le _⟩ ?_
  refine lv_if_eq (tgt := 24) hx hb dX5_way_9 (by decide) (fun c_9 => ?_) (fun c_9 => ?_)
  · refine lv_aload_n hx hb dX5_way_24 rfl (lv_at hl 0 rfl) ?_
    refine lv_bipush (v := -2) hx hb dX5_way_25 (by decide) ?_
    refine f_mV0 hx hb hml hown hts (m5_refuse l D dA am P T G L kt tr _  2 (by omega)) (cwV 1 hts (lw_V q1629 q1631 qs32 q79 q1632) rfl rfl rfl (by decide +kernel) ⟨Nat.le_of_ble_eq_true rfl, Nat.le_of_ble_eq_true rfl⟩) hG hI MO_0 rfl rfl hl.1 rfl (Nat.le_of_ble_eq_true rfl) dX5_way_27 ⟨Nat.zero_le _, Nat.zero_le _⟩ (fun _ H locs _ hI => ?_)
    have hE : (-(nI 2), up P 13 2 (P 13 2 + 1)) = d5_way P x y Wn := (by unfold d5_way; rw [if_pos c_9])
    exact f_mreti hx hb hr hlocks hI dX5_way_30 () (congrArg (fun z => some (Value.int z.1)) hE) trivial (congrArg (fun z => MO dA am z.2 T G L kt tr) hE)
  · obtain ⟨jx, h_jx, rfl⟩ := in_nat c_9 (n := 5) (by decide) (by decide)
    refine lv_iload_n hx hb dX5_way_12 rfl (lv_at hl 2 rfl) ?_
    refine lv_i2l (v := y.toInt64) hx hb dX5_way_13 rfl ?_
    refine lv_lconst (v := 0) hx hb dX5_way_14 (by decide) ?_
    refine lv_ldc2 (v := 10) hx hb hown (hts _ q1697) dX5_way_15 ?_
    refine f_pS hx hb hml hown hts (m5_in l D dA (MO dA am P T G L kt tr)  y.toInt64 0 10 ) (va_cwS 3 hts (lw_S q1624 q1625 q79 q1626) rfl rfl rfl (by decide +kernel) ⟨Nat.le_of_ble_eq_true rfl, Nat.le_of_ble_eq_true rfl⟩) hG hI.1 f_id rfl hl.1 rfl (Nat.le_of_ble_eq_true rfl) dX5_way_18 ⟨Nat.zero_le _, Nat.zero_le _⟩ ?_
    refine lv_if_ne (tgt := 31) hx hb dX5_way_21 (by decide) (fun c_21 => ?_) (fun c_21 => ?_)
    · obtain ⟨jy, h_jy, rfl⟩ := in_nat c_21 (n := 10) (by decide) (by decide)
      refine lv_aload_n hx hb dX5_way_31 rfl (lv_at hl 0 rfl) ?_
      refine f_get hx hb hts in_X5 hown hK hI.1 0 MO_0 rfl 14 (by decide) (hts _ q1524) (fun x h => h) rfl dX5_way_32 ?_
      refine lv_bipush (v := 6) hx hb dX5_way_35 (by decide) ?_
      refine lv_icmp_ne (tgt := 47) hx hb dX5_way_37 (by decide) (fun c_37 => ?_) (fun c_37 => ?_)
      · have e_37 := (not_congr (nat_eq (a := Wn) (b := 6) hwt rfl (by omega) (by omega))).mp c_37
        refine lv_aload_n hx hb dX5_way_47 rfl (lv_at hl 0 rfl) ?_
        refine f_get hx hb hts in_X5 hown hK hI.1 0 MO_0 rfl 15 (by decide) (hts _ q1525) (fun x h => h) rfl dX5_way_48 ?_
        refine lv_aload_n hx hb dX5_way_51 rfl (lv_at hl 0 rfl) ?_
        refine f_get hx hb hts in_X5 hown hK hI.1 0 MO_0 rfl 14 (by decide) (hts _ q1524) (fun x h => h) rfl dX5_way_52 ?_
        refine lv_iload_n hx hb dX5_way_55 rfl (lv_at hl 1 rfl) ?_
        refine f_iast hx hb hK hI 13 0 MO_13 rfl Wn hwt (by omega) (by decide) dX5_way_56 (fun H locs hI => ?_)
        have hI := hI.congr MO_a13
        refine lv_aload_n hx hb dX5_way_57 rfl (lv_at hl 0 rfl) ?_
        refine f_get hx hb hts in_X5 hown hK hI.1 0 MO_0 rfl 16 (by decide) (hts _ q1526) (fun x h => h) rfl dX5_way_58 ?_
        refine lv_aload_n hx hb dX5_way_61 rfl (lv_at hl 0 rfl) ?_
        refine f_get hx hb hts in_X5 hown hK hI.1 0 MO_0 rfl 14 (by decide) (hts _ q1524) (fun x h => h) rfl dX5_way_62 ?_
        refine lv_iload_n hx hb dX5_way_65 rfl (lv_at hl 2 rfl) ?_
        refine f_iast hx hb hK hI 14 0 MO_14 rfl Wn hwt (by omega) (by decide) dX5_way_66 (fun H locs hI => ?_)
        have hI := hI.congr MO_a14
        refine lv_aload_n hx hb dX5_way_67 rfl (lv_at hl 0 rfl) ?_
        refine lv_dup hx hb dX5_way_68 rfl ?_
        refine f_get hx hb hts in_X5 hown hK hI.1 0 MO_0 rfl 14 (by decide) (hts _ q1524) (fun x h => h) rfl dX5_way_69 ?_
        refine lv_dup_x1 hx hb dX5_way_72 rfl rfl ?_
        refine lv_iconst (v := 1) hx hb dX5_way_73 (by decide) ?_
        refine lv_iadd hx hb dX5_way_74 ?_
        refine f_put hx hb hts in_X5 tyX5 tyX5_ok nmX5 hown hK hI 0 MO_0 rfl 14 (by decide) (hts _ q1524) (fun x h => h) rfl (ttyX5_14) rfl rfl (Nat.le_of_ble_eq_true rfl) dX5_way_75 (fun H locs hI => ?_)
        have hI := hI.congr MO_f14
        have hE : (P 7 1, up (up (up P 4 Wn (nI jx)) 5 Wn (nI jy)) 7 1 ((P 7 1) + 1)) = d5_way P (nI jx) (nI jy) Wn := (by unfold d5_way; (try simp only [cN_nI (show jx < 65536 by omega), cN_nI (show jy < 65536 by omega)]); rw [if_neg c_9, if_neg c_21, if_neg c_37])
        exact f_mreti hx hb hr hlocks hI dX5_way_78 () (congrArg (fun z => some (Value.int z.1)) hE) trivial (congrArg (fun z => MO dA am z.2 T G L kt tr) hE)
      · have e_37 := (nat_eq (a := Wn) (b := 6) hwt rfl (by omega) (by omega)).mp c_37
        refine lv_aload_n hx hb dX5_way_40 rfl (lv_at hl 0 rfl) ?_
        refine lv_bipush (v := -6) hx hb dX5_way_41 (by decide) ?_
        refine f_mV0 hx hb hml hown hts (m5_refuse l D dA am P T G L kt tr _  6 (by omega)) (cwV 1 hts (lw_V q1629 q1631 qs32 q79 q1632) rfl rfl rfl (by decide +kernel) ⟨Nat.le_of_ble_eq_true rfl, Nat.le_of_ble_eq_true rfl⟩) hG hI MO_0 rfl rfl hl.1 rfl (Nat.le_of_ble_eq_true rfl) dX5_way_43 ⟨Nat.zero_le _, Nat.zero_le _⟩ (fun _ H locs _ hI => ?_)
        have hE : (-(nI 6), up P 13 6 (P 13 6 + 1)) = d5_way P (nI jx) (nI jy) Wn := (by unfold d5_way; (try simp only [cN_nI (show jx < 65536 by omega), cN_nI (show jy < 65536 by omega)]); rw [if_neg c_9, if_neg c_21, if_pos c_37])
        exact f_mreti hx hb hr hlocks hI dX5_way_46 () (congrArg (fun z => some (Value.int z.1)) hE) trivial (congrArg (fun z => MO dA am z.2 T G L kt tr) hE)
    · refine lv_aload_n hx hb dX5_way_24 rfl (lv_at hl 0 rfl) ?_
      refine lv_bipush (v := -2) hx hb dX5_way_25 (by decide) ?_
      refine f_mV0 hx hb hml hown hts (m5_refuse l D dA am P T G L kt tr _  2 (by omega)) (cwV 1 hts (lw_V q1629 q1631 qs32 q79 q1632) rfl rfl rfl (by decide +kernel) ⟨Nat.le_of_ble_eq_true rfl, Nat.le_of_ble_eq_true rfl⟩) hG hI MO_0 rfl rfl hl.1 rfl (Nat.le_of_ble_eq_true rfl) dX5_way_27 ⟨Nat.zero_le _, Nat.zero_le _⟩ (fun _ H locs _ hI => ?_)
      have hE : (-(nI 2), up P 13 2 (P 13 2 + 1)) = d5_way P (nI jx) y Wn := (by unfold d5_way; (try simp only [cN_nI (show jx < 65536 by omega)]); rw [if_neg c_9, if_pos c_21])
      exact f_mreti hx hb hr hlocks hI dX5_way_30 () (congrArg (fun z => some (Value.int z.1)) hE) trivial (congrArg (fun z => MO dA am z.2 T G L kt tr) hE)
def d5_ask (P : Nat → Nat → Int32) (x : Int32) (y : Int32) : Int32 × (Nat → Nat → Int32) := if (d5_in x.toInt64 0 9) = 0 then (-(nI 2), up P 13 2 (P 13 2 + 1)) else (if (d5_in y.toInt64 ((d5_leastOf P (x)).toInt64) ((d5_mostOf P (x)).toInt64)) = 0 then (-(nI 2), up P 13 2 (P 13 2 + 1)) else (P 6 (cN x), up P 6 (cN x) y))
set_option maxHeartbeats 4000000 in
set_option maxRecDepth 100000 in
theorem m5_ask (l : Launch) (D : va_G) (dA : Nat → ClassId) (am : Nat → Nat) (P T : Nat → Nat → Int32) (G : Nat → Int32) (L : Nat → Nat → Int64) (kt tr : Option Nat) (sz : Nat)  (x : Int32) (y : Int32)  : Met l yX5_ask (ws_ yX5_ask cX5_ask 4 (some .int)) ({ frames := 1, cells := 0, slots := 0, locals := 25 } : Room) (fPm D dA (MO dA am P T G L kt tr) sz [.ref (am 0), .int x, .int y]) (fQm (S := Unit) D (MO dA am P T G L kt tr) sz (fun _ => some (.int ((d5_ask P x y).1))) (fun _ => True) (fun _ => MO dA am ((d5_ask P x y).2) T G L kt tr)) 0 0 (fA (MO dA am P T G L kt tr) sz) := by
  refine Met.ofW (cc := cX5_ask) (maxL := 4) (ret := (some .int)) (by decide) rfl ?_
  intro p e s m args below meth c s₁ B hml hv
  obtain ⟨rfl, hsz, hP0, hG, hD0⟩ := hv
  have hK := hG.1
  have hx := B.exec
  have hb := B.bytes
  have hr := B.returns
  have hts := atoms_spec (ws := (ws_ yX5_ask cX5_ask 4 (some .int))) B.pre
  have hts : ∀ w ∈ lw_all, w.before _ s = true := fun w h => hts w (List.mem_cons_of_mem _ h)
  have hown : s.vm.findClass RX5 = some m.cls := findClass_of_methodNamed B.named
  have hlocks := B.notSynchronized
  subst hsz
  have hI := FI.start hP0 hD0
  have hl := lv_entry ([.ref (am 0), .int x, .int y]) (n := 4) (Nat.le_of_ble_eq_true rfl)
  rw [lg_entry_eq]
  generalize (lg_sl ([.ref (am 0), .int x, .int y]) ++ List.replicate (4 - (lg_sl ([.ref (am 0), .int x, .int y])).length) Slot.unset).toArray = ls at hl ⊢
  have hl : lv_has ls 4 [(0, .ref (am 0)), (1, .int x), (2, .int y)] := hl
  refine lv_iload_n hx hb dX5_ask_0 rfl (lv_at hl 1 rfl) ?_
  refine lv_i2l (v := x.toInt64) hx hb dX5_ask_1 rfl ?_
  refine lv_lconst (v := 0) hx hb dX5_ask_2 (by decide) ?_
  refine lv_ldc2 (v := 9) hx hb hown (hts _ q1702) dX5_ask_3 ?_
  refine f_pS hx hb hml hown hts (m5_in l D dA (MO dA am P T G L kt tr)  x.toInt64 0 9 ) (va_cwS 3 hts (lw_S q1624 q1625 q79 q1626) rfl rfl rfl (by decide +kernel) ⟨Nat.le_of_ble_eq_true rfl, Nat.le_of_ble_eq_true rfl⟩) hG hI.1 f_id rfl hl.1 rfl (Nat.le_of_ble_eq_true rfl) dX5_ask_6 ⟨Nat.zero_le _, Nat.zero_le _⟩ ?_
  refine lv_if_eq (tgt := 32) hx hb dX5_ask_9 (by decide) (fun c_9 => ?_) (fun c_9 => ?_)
  · refine lv_aload_n hx hb dX5_ask_32 rfl (lv_at hl 0 rfl) ?_
    refine lv_bipush (v := -2) hx hb dX5_ask_33 (by decide) ?_
    refine f_mV0 hx hb hml hown hts (m5_refuse l D dA am P T G L kt tr _  2 (by omega)) (cwV 1 hts (lw_V q1629 q1631 qs32 q79 q1632) rfl rfl rfl (by decide +kernel) ⟨Nat.le_of_ble_eq_true rfl, Nat.le_of_ble_eq_true rfl⟩) hG hI MO_0 rfl rfl hl.1 rfl (Nat.le_of_ble_eq_true rfl) dX5_ask_35 ⟨Nat.zero_le _, Nat.zero_le _⟩ (fun _ H locs _ hI => ?_)
    have hE : (-(nI 2), up P 13 2 (P 13 2 + 1)) = d5_ask P x y := (by unfold d5_ask; rw [if_pos c_9])
    exact f_mreti hx hb hr hlocks hI dX5_ask_38 () (congrArg (fun z => some (Value.int z.1)) hE) trivial (congrArg (fun z => MO dA am z.2 T G L kt tr) hE)
  · obtain ⟨jx, h_jx, rfl⟩ := in_nat c_9 (n := 9) (by decide) (by decide)
    refine lv_iload_n hx hb dX5_ask_12 rfl (lv_at hl 2 rfl) ?_
    refine lv_i2l (v := y.toInt64) hx hb dX5_ask_13 rfl ?_
    refine lv_aload_n hx hb dX5_ask_14 rfl (lv_at hl 0 rfl) ?_
    refine lv_iload_n hx hb dX5_ask_15 rfl (lv_at hl 1 rfl) ?_
    refine f_pV hx hb hml hown hts (m5_leastOf l D dA am P T G L kt tr  (nI jx) ) (cwV 1 hts (lw_V q1703 q1705 qs39 q79 q1706) rfl rfl rfl (by decide +kernel) ⟨Nat.le_of_ble_eq_true rfl, Nat.le_of_ble_eq_true rfl⟩) hG hI.1 f_id MO_0 rfl rfl hl.1 rfl (Nat.le_of_ble_eq_true rfl) dX5_ask_16 ⟨Nat.zero_le _, Nat.zero_le _⟩ ?_
    refine lv_i2l (v := (d5_leastOf P (nI jx)).toInt64) hx hb dX5_ask_19 rfl ?_
    refine lv_aload_n hx hb dX5_ask_20 rfl (lv_at hl 0 rfl) ?_
    refine lv_iload_n hx hb dX5_ask_21 rfl (lv_at hl 1 rfl) ?_
    refine f_pV hx hb hml hown hts (m5_mostOf l D dA am P T G L kt tr  (nI jx) ) (cwV 1 hts (lw_V q1707 q1709 qs40 q79 q1710) rfl rfl rfl (by decide +kernel) ⟨Nat.le_of_ble_eq_true rfl, Nat.le_of_ble_eq_true rfl⟩) hG hI.1 f_id MO_0 rfl rfl hl.1 rfl (Nat.le_of_ble_eq_true rfl) dX5_ask_22 ⟨Nat.zero_le _, Nat.zero_le _⟩ ?_
    refine lv_i2l (v := (d5_mostOf P (nI jx)).toInt64) hx hb dX5_ask_25 rfl ?_
    refine f_pS hx hb hml hown hts (m5_in l D dA (MO dA am P T G L kt tr)  y.toInt64 ((d5_leastOf P (nI jx)).toInt64) ((d5_mostOf P (nI jx)).toInt64) ) (va_cwS 3 hts (lw_S q1624 q1625 q79 q1626) rfl rfl rfl (by decide +kernel) ⟨Nat.le_of_ble_eq_true rfl, Nat.le_of_ble_eq_true rfl⟩) hG hI.1 f_id rfl hl.1 rfl (Nat.le_of_ble_eq_true rfl) dX5_ask_26 ⟨Nat.zero_le _, Nat.zero_le _⟩ ?_
    refine lv_if_ne (tgt := 39) hx hb dX5_ask_29 (by decide) (fun c_29 => ?_) (fun c_29 => ?_)
    · refine lv_aload_n hx hb dX5_ask_39 rfl (lv_at hl 0 rfl) ?_
      refine f_get hx hb hts in_X5 hown hK hI.1 0 MO_0 rfl 17 (by decide) (hts _ q1527) (fun x h => h) rfl dX5_ask_40 ?_
      refine lv_iload_n hx hb dX5_ask_43 rfl (lv_at hl 1 rfl) ?_
      refine f_iald hx hb hK hI.1 15 0 MO_15 rfl jx rfl (by omega) (by decide) dX5_ask_44 ?_
      refine lv_istore_n (lv' := [(3, .int (P 6 jx)), (0, .ref (am 0)), (1, .int (nI jx)), (2, .int y)]) hx hb dX5_ask_45 rfl hl (by decide) rfl (fun ls hl => ?_)
      refine lv_aload_n hx hb dX5_ask_46 rfl (lv_at hl 1 rfl) ?_
      refine f_get hx hb hts in_X5 hown hK hI.1 0 MO_0 rfl 17 (by decide) (hts _ q1527) (fun x h => h) rfl dX5_ask_47 ?_
      refine lv_iload_n hx hb dX5_ask_50 rfl (lv_at hl 2 rfl) ?_
      refine lv_iload_n hx hb dX5_ask_51 rfl (lv_at hl 3 rfl) ?_
      refine f_iast hx hb hK hI 15 0 MO_15 rfl jx rfl (by omega) (by decide) dX5_ask_52 (fun H locs hI => ?_)
      have hI := hI.congr MO_a15
      refine lv_iload_n hx hb dX5_ask_53 rfl (lv_at hl 0 rfl) ?_
      have hE : (P 6 jx, up P 6 jx y) = d5_ask P (nI jx) y := (by unfold d5_ask; (try simp only [cN_nI (show jx < 65536 by omega)]); rw [if_neg c_9, if_neg c_29])
      exact f_mreti hx hb hr hlocks hI dX5_ask_54 () (congrArg (fun z => some (Value.int z.1)) hE) trivial (congrArg (fun z => MO dA am z.2 T G L kt tr) hE)
    · refine lv_aload_n hx hb dX5_ask_32 rfl (lv_at hl 0 rfl) ?_
      refine lv_bipush (v := -2) hx hb dX5_ask_33 (by decide) ?_
      refine f_mV0 hx hb hml hown hts (m5_refuse l D dA am P T G L kt tr _  2 (by omega)) (cwV 1 hts (lw_V q1629 q1631 qs32 q79 q1632) rfl rfl rfl (by decide +kernel) ⟨Nat.le_of_ble_eq_true rfl, Nat.le_of_ble_eq_true rfl⟩) hG hI MO_0 rfl rfl hl.1 rfl (Nat.le_of_ble_eq_true rfl) dX5_ask_35 ⟨Nat.zero_le _, Nat.zero_le _⟩ (fun _ H locs _ hI => ?_)
      have hE : (-(nI 2), up P 13 2 (P 13 2 + 1)) = d5_ask P (nI jx) y := (by unfold d5_ask; (try simp only [cN_nI (show jx < 65536 by omega)]); rw [if_neg c_9, if_pos c_29])
      exact f_mreti hx hb hr hlocks hI dX5_ask_38 () (congrArg (fun z => some (Value.int z.1)) hE) trivial (congrArg (fun z => MO dA am z.2 T G L kt tr) hE)
def d5_put (P : Nat → Nat → Int32) (x : Int32) (y : Int32) (z : Int32) : Int32 × (Nat → Nat → Int32) := if (d5_isStep P x) = 0 then (-(nI 2), up P 13 2 (P 13 2 + 1)) else (if (d5_in y.toInt64 0 2) = 0 then (-(nI 2), up P 13 2 (P 13 2 + 1)) else (if (y) = 0 then (if (P 1 (cN x)) = z then (0, up P 1 (cN x) (vp_nar .boolean z)) else (1, up P 1 (cN x) (vp_nar .boolean z))) else (if (y) = 1 then (if (P 2 (cN x)) = z then (0, up P 2 (cN x) (vp_nar .boolean z)) else (1, up P 2 (cN x) (vp_nar .boolean z))) else (if (P 3 (cN x)) = z then (0, up P 3 (cN x) (vp_nar .boolean z)) else (1, up P 3 (cN x) (vp_nar .boolean z))))))
set_option maxHeartbeats 4000000 in
set_option maxRecDepth 100000 in
theorem m5_put (l : Launch) (D : va_G) (dA : Nat → ClassId) (am : Nat → Nat) (P T : Nat → Nat → Int32) (G : Nat → Int32) (L : Nat → Nat → Int64) (kt tr : Option Nat) (sz : Nat) (S : Nat) (x : Int32) (y : Int32) (z : Int32) (hst : P 7 0 = nI S) (hS : S ≤ 9) : Met l yX5_put (ws_ yX5_put cX5_put 6 (some .int)) ({ frames := 2, cells := 0, slots := 0, locals := 46 } : Room) (fPm D dA (MO dA am P T G L kt tr) sz [.ref (am 0), .int x, .int y, .int z]) (fQm (S := Unit) D (MO dA am P T G L kt tr) sz (fun _ => some (.int ((d5_put P x y z).1))) (fun _ => True) (fun _ => MO dA am ((d5_put P x y z).2) T G L kt tr)) 0 0 (fA (MO dA am P T G L kt tr) sz) := by
  refine Met.ofW (cc := cX5_put) (maxL := 6) (ret := (some .int)) (by decide) rfl ?_
  intro p e s m args below meth c s₁ B hml hv
  obtain ⟨rfl, hsz, hP0, hG, hD0⟩ := hv
  have hK := hG.1
  have hx := B.exec
  have hb := B.bytes
  have hr := B.returns
  have hts := atoms_spec (ws := (ws_ yX5_put cX5_put 6 (some .int))) B.pre
  have hts : ∀ w ∈ lw_all, w.before _ s = true := fun w h => hts w (List.mem_cons_of_mem _ h)
  have hown : s.vm.findClass RX5 = some m.cls := findClass_of_methodNamed B.named
  have hlocks := B.notSynchronized
  subst hsz
  have hI := FI.start hP0 hD0
  have hl := lv_entry ([.ref (am 0), .int x, .int y, .int z]) (n := 6) (Nat.le_of_ble_eq_true rfl)
  rw [lg_entry_eq]
  generalize (lg_sl ([.ref (am 0), .int x, .int y, .int z]) ++ List.replicate (6 - (lg_sl ([.ref (am 0), .int x, .int y, .int z])).length) Slot.unset).toArray = ls at hl ⊢
  have hl : lv_has ls 6 [(0, .ref (am 0)), (1, .int x), (2, .int y), (3, .int z)] := hl
  refine lv_aload_n hx hb dX5_put_0 rfl (lv_at hl 0 rfl) ?_
  refine lv_iload_n hx hb dX5_put_1 rfl (lv_at hl 1 rfl) ?_
  refine f_pV hx hb hml hown hts (m5_isStep l D dA am P T G L kt tr  x ) (cwV 1 hts (lw_V q1715 q1717 qs41 q79 q1718) rfl rfl rfl (by decide +kernel) ⟨Nat.le_of_ble_eq_true rfl, Nat.le_of_ble_eq_true rfl⟩) hG hI.1 f_id MO_0 rfl rfl hl.1 rfl (Nat.le_of_ble_eq_true rfl) dX5_put_2 ⟨Nat.zero_le _, Nat.zero_le _⟩ ?_
  refine lv_if_eq (tgt := 20) hx hb dX5_put_5 (by decide) (fun c_5 => ?_) (fun c_5 => ?_)
  · refine lv_aload_n hx hb dX5_put_20 rfl (lv_at hl 0 rfl) ?_
    refine lv_bipush (v := -2) hx hb dX5_put_21 (by decide) ?_
    refine f_mV0 hx hb hml hown hts (m5_refuse l D dA am P T G L kt tr _  2 (by omega)) (cwV 1 hts (lw_V q1629 q1631 qs32 q79 q1632) rfl rfl rfl (by decide +kernel) ⟨Nat.le_of_ble_eq_true rfl, Nat.le_of_ble_eq_true rfl⟩) hG hI MO_0 rfl rfl hl.1 rfl (Nat.le_of_ble_eq_true rfl) dX5_put_23 ⟨Nat.zero_le _, Nat.zero_le _⟩ (fun _ H locs _ hI => ?_)
    have hE : (-(nI 2), up P 13 2 (P 13 2 + 1)) = d5_put P x y z := (by unfold d5_put; rw [if_pos c_5])
    exact f_mreti hx hb hr hlocks hI dX5_put_26 () (congrArg (fun z => some (Value.int z.1)) hE) trivial (congrArg (fun z => MO dA am z.2 T G L kt tr) hE)
  · obtain ⟨jx, h_jx, rfl⟩ := isStep_nat c_5 hst hS
    refine lv_iload_n hx hb dX5_put_8 rfl (lv_at hl 2 rfl) ?_
    refine lv_i2l (v := y.toInt64) hx hb dX5_put_9 rfl ?_
    refine lv_lconst (v := 0) hx hb dX5_put_10 (by decide) ?_
    refine lv_ldc2 (v := 2) hx hb hown (hts _ q1719) dX5_put_11 ?_
    refine f_pS hx hb hml hown hts (m5_in l D dA (MO dA am P T G L kt tr)  y.toInt64 0 2 ) (va_cwS 3 hts (lw_S q1624 q1625 q79 q1626) rfl rfl rfl (by decide +kernel) ⟨Nat.le_of_ble_eq_true rfl, Nat.le_of_ble_eq_true rfl⟩) hG hI.1 f_id rfl hl.1 rfl (Nat.le_of_ble_eq_true rfl) dX5_put_14 ⟨Nat.zero_le _, Nat.zero_le _⟩ ?_
    refine lv_if_ne (tgt := 27) hx hb dX5_put_17 (by decide) (fun c_17 => ?_) (fun c_17 => ?_)
    · obtain ⟨jy, h_jy, rfl⟩ := in_nat c_17 (n := 2) (by decide) (by decide)
      refine lv_iload_n hx hb dX5_put_27 rfl (lv_at hl 2 rfl) ?_
      refine lv_if_ne (tgt := 38) hx hb dX5_put_28 (by decide) (fun c_28 => ?_) (fun c_28 => ?_)
      · have e_28 := (not_congr (nat_eq (a := jy) (b := 0) rfl rfl (by omega) (by omega))).mp c_28
        refine lv_iload_n hx hb dX5_put_38 rfl (lv_at hl 2 rfl) ?_
        refine lv_iconst (v := 1) hx hb dX5_put_39 (by decide) ?_
        refine lv_icmp_ne (tgt := 50) hx hb dX5_put_40 (by decide) (fun c_40 => ?_) (fun c_40 => ?_)
        · have e_40 := (not_congr (nat_eq (a := jy) (b := 1) rfl rfl (by omega) (by omega))).mp c_40
          refine lv_aload_n hx hb dX5_put_50 rfl (lv_at hl 0 rfl) ?_
          refine f_get hx hb hts in_X5 hown hK hI.1 0 MO_0 rfl 13 (by decide) (hts _ q1523) (fun x h => h) rfl dX5_put_51 ?_
          refine lv_astore (lv' := [(4, .ref (am 12)), (0, .ref (am 0)), (1, .int (nI jx)), (2, .int (nI jy)), (3, .int z)]) hx hb dX5_put_54 hl (by decide) rfl (fun ls hl => ?_)
          refine lv_aload hx hb dX5_put_56 (lv_at hl 0 rfl) ?_
          refine lv_iload_n hx hb dX5_put_58 rfl (lv_at hl 2 rfl) ?_
          refine f_zald hx hb hK hI.1 12 4 MO_12 rfl jx rfl (by omega) (by decide) dX5_put_59 ?_
          refine lv_istore (lv' := [(5, .int (P 3 jx)), (4, .ref (am 12)), (0, .ref (am 0)), (1, .int (nI jx)), (2, .int (nI jy)), (3, .int z)]) hx hb dX5_put_60 hl (by decide) rfl (fun ls hl => ?_)
          refine lv_aload hx hb dX5_put_62 (lv_at hl 1 rfl) ?_
          refine lv_iload_n hx hb dX5_put_64 rfl (lv_at hl 3 rfl) ?_
          refine lv_iload_n hx hb dX5_put_65 rfl (lv_at hl 5 rfl) ?_
          refine f_zast hx hb hK hI 12 4 MO_12 rfl jx rfl (by omega) (by decide) dX5_put_66 (fun H locs hI => ?_)
          have hI := hI.congr MO_a12
          refine lv_iload hx hb dX5_put_67 (lv_at hl 0 rfl) ?_
          refine lv_iload_n hx hb dX5_put_69 rfl (lv_at hl 5 rfl) ?_
          refine lv_icmp_eq (tgt := 77) hx hb dX5_put_70 (by decide) (fun (c_70 : (P 3 jx) = z) => ?_) (fun (c_70 : ¬ ((P 3 jx) = z)) => ?_)
          · refine lv_iconst (v := 0) hx hb dX5_put_77 (by decide) ?_
            have hE : (0, up P 3 jx (vp_nar .boolean z)) = d5_put P (nI jx) (nI jy) z := (by unfold d5_put; (try simp only [cN_nI (show jx < 65536 by omega), cN_nI (show jy < 65536 by omega)]); rw [if_neg c_5, if_neg c_17, if_neg c_28, if_neg c_40, if_pos c_70])
            exact f_mreti hx hb hr hlocks hI dX5_put_78 () (congrArg (fun z => some (Value.int z.1)) hE) trivial (congrArg (fun z => MO dA am z.2 T G L kt tr) hE)
          · refine lv_iconst (v := 1) hx hb dX5_put_73 (by decide) ?_
            refine lv_goto (tgt := 78) hx hb dX5_put_74 (by decide) ?_
            have hE : (1, up P 3 jx (vp_nar .boolean z)) = d5_put P (nI jx) (nI jy) z := (by unfold d5_put; (try simp only [cN_nI (show jx < 65536 by omega), cN_nI (show jy < 65536 by omega)]); rw [if_neg c_5, if_neg c_17, if_neg c_28, if_neg c_40, if_neg c_70])
            exact f_mreti hx hb hr hlocks hI dX5_put_78 () (congrArg (fun z => some (Value.int z.1)) hE) trivial (congrArg (fun z => MO dA am z.2 T G L kt tr) hE)
        · have e_40 := (nat_eq (a := jy) (b := 1) rfl rfl (by omega) (by omega)).mp c_40
          refine lv_aload_n hx hb dX5_put_43 rfl (lv_at hl 0 rfl) ?_
          refine f_get hx hb hts in_X5 hown hK hI.1 0 MO_0 rfl 12 (by decide) (hts _ q1522) (fun x h => h) rfl dX5_put_44 ?_
          refine lv_goto (tgt := 54) hx hb dX5_put_47 (by decide) ?_
          refine lv_astore (lv' := [(4, .ref (am 11)), (0, .ref (am 0)), (1, .int (nI jx)), (2, .int (nI jy)), (3, .int z)]) hx hb dX5_put_54 hl (by decide) rfl (fun ls hl => ?_)
          refine lv_aload hx hb dX5_put_56 (lv_at hl 0 rfl) ?_
          refine lv_iload_n hx hb dX5_put_58 rfl (lv_at hl 2 rfl) ?_
          refine f_zald hx hb hK hI.1 11 4 MO_11 rfl jx rfl (by omega) (by decide) dX5_put_59 ?_
          refine lv_istore (lv' := [(5, .int (P 2 jx)), (4, .ref (am 11)), (0, .ref (am 0)), (1, .int (nI jx)), (2, .int (nI jy)), (3, .int z)]) hx hb dX5_put_60 hl (by decide) rfl (fun ls hl => ?_)
          refine lv_aload hx hb dX5_put_62 (lv_at hl 1 rfl) ?_
          refine lv_iload_n hx hb dX5_put_64 rfl (lv_at hl 3 rfl) ?_
          refine lv_iload_n hx hb dX5_put_65 rfl (lv_at hl 5 rfl) ?_
          refine f_zast hx hb hK hI 11 4 MO_11 rfl jx rfl (by omega) (by decide) dX5_put_66 (fun H locs hI => ?_)
          have hI := hI.congr MO_a11
          refine lv_iload hx hb dX5_put_67 (lv_at hl 0 rfl) ?_
          refine lv_iload_n hx hb dX5_put_69 rfl (lv_at hl 5 rfl) ?_
          refine lv_icmp_eq (tgt := 77) hx hb dX5_put_70 (by decide) (fun (c_70 : (P 2 jx) = z) => ?_) (fun (c_70 : ¬ ((P 2 jx) = z)) => ?_)
          · refine lv_iconst (v := 0) hx hb dX5_put_77 (by decide) ?_
            have hE : (0, up P 2 jx (vp_nar .boolean z)) = d5_put P (nI jx) (nI jy) z := (by unfold d5_put; (try simp only [cN_nI (show jx < 65536 by omega), cN_nI (show jy < 65536 by omega)]); rw [if_neg c_5, if_neg c_17, if_neg c_28, if_pos c_40, if_pos c_70])
            exact f_mreti hx hb hr hlocks hI dX5_put_78 () (congrArg (fun z => some (Value.int z.1)) hE) trivial (congrArg (fun z => MO dA am z.2 T G L kt tr) hE)
          · refine lv_iconst (v := 1) hx hb dX5_put_73 (by decide) ?_
            refine lv_goto (tgt := 78) hx hb dX5_put_74 (by decide) ?_
            have hE : (1, up P 2 jx (vp_nar .boolean z)) = d5_put P (nI jx) (nI jy) z := (by unfold d5_put; (try simp only [cN_nI (show jx < 65536 by omega), cN_nI (show jy < 65536 by omega)]); rw [if_neg c_5, if_neg c_17, if_neg c_28, if_pos c_40, if_neg c_70])
            exact f_mreti hx hb hr hlocks hI dX5_put_78 () (congrArg (fun z => some (Value.int z.1)) hE) trivial (congrArg (fun z => MO dA am z.2 T G L kt tr) hE)
      · have e_28 := (nat_eq (a := jy) (b := 0) rfl rfl (by omega) (by omega)).mp c_28
        refine lv_aload_n hx hb dX5_put_31 rfl (lv_at hl 0 rfl) ?_
        refine f_get hx hb hts in_X5 hown hK hI.1 0 MO_0 rfl 11 (by decide) (hts _ q1521) (fun x h => h) rfl dX5_put_32 ?_
        refine lv_goto (tgt := 54) hx hb dX5_put_35 (by decide) ?_
        refine lv_astore (lv' := [(4, .ref (am 10)), (0, .ref (am 0)), (1, .int (nI jx)), (2, .int (nI jy)), (3, .int z)]) hx hb dX5_put_54 hl (by decide) rfl (fun ls hl => ?_)
        refine lv_aload hx hb dX5_put_56 (lv_at hl 0 rfl) ?_
        refine lv_iload_n hx hb dX5_put_58 rfl (lv_at hl 2 rfl) ?_
        refine f_zald hx hb hK hI.1 10 4 MO_10 rfl jx rfl (by omega) (by decide) dX5_put_59 ?_
        refine lv_istore (lv' := [(5, .int (P 1 jx)), (4, .ref (am 10)), (0, .ref (am 0)), (1, .int (nI jx)), (2, .int (nI jy)), (3, .int z)]) hx hb dX5_put_60 hl (by decide) rfl (fun ls hl => ?_)
        refine lv_aload hx hb dX5_put_62 (lv_at hl 1 rfl) ?_
        refine lv_iload_n hx hb dX5_put_64 rfl (lv_at hl 3 rfl) ?_
        refine lv_iload_n hx hb dX5_put_65 rfl (lv_at hl 5 rfl) ?_
        refine f_zast hx hb hK hI 10 4 MO_10 rfl jx rfl (by omega) (by decide) dX5_put_66 (fun H locs hI => ?_)
        have hI := hI.congr MO_a10
        refine lv_iload hx hb dX5_put_67 (lv_at hl 0 rfl) ?_
        refine lv_iload_n hx hb dX5_put_69 rfl (lv_at hl 5 rfl) ?_
        refine lv_icmp_eq (tgt := 77) hx hb dX5_put_70 (by decide) (fun (c_70 : (P 1 jx) = z) => ?_) (fun (c_70 : ¬ ((P 1 jx) = z)) => ?_)
        · refine lv_iconst (v := 0) hx hb dX5_put_77 (by decide) ?_
          have hE : (0, up P 1 jx (vp_nar .boolean z)) = d5_put P (nI jx) (nI jy) z := (by unfold d5_put; (try simp only [cN_nI (show jx < 65536 by omega), cN_nI (show jy < 65536 by omega)]); rw [if_neg c_5, if_neg c_17, if_pos c_28, if_pos c_70])
          exact f_mreti hx hb hr hlocks hI dX5_put_78 () (congrArg (fun z => some (Value.int z.1)) hE) trivial (congrArg (fun z => MO dA am z.2 T G L kt tr) hE)
        · refine lv_iconst (v := 1) hx hb dX5_put_73 (by decide) ?_
          refine lv_goto (tgt := 78) hx hb dX5_put_74 (by decide) ?_
          have hE : (1, up P 1 jx (vp_nar .boolean z)) = d5_put P (nI jx) (nI jy) z := (by unfold d5_put; (try simp only [cN_nI (show jx < 65536 by omega), cN_nI (show jy < 65536 by omega)]); rw [if_neg c_5, if_neg c_17, if_pos c_28, if_neg c_70])
          exact f_mreti hx hb hr hlocks hI dX5_put_78 () (congrArg (fun z => some (Value.int z.1)) hE) trivial (congrArg (fun z => MO dA am z.2 T G L kt tr) hE)
    · refine lv_aload_n hx hb dX5_put_20 rfl (lv_at hl 0 rfl) ?_
      refine lv_bipush (v := -2) hx hb dX5_put_21 (by decide) ?_
      refine f_mV0 hx hb hml hown hts (m5_refuse l D dA am P T G L kt tr _  2 (by omega)) (cwV 1 hts (lw_V q1629 q1631 qs32 q79 q1632) rfl rfl rfl (by decide +kernel) ⟨Nat.le_of_ble_eq_true rfl, Nat.le_of_ble_eq_true rfl⟩) hG hI MO_0 rfl rfl hl.1 rfl (Nat.le_of_ble_eq_true rfl) dX5_put_23 ⟨Nat.zero_le _, Nat.zero_le _⟩ (fun _ H locs _ hI => ?_)
      have hE : (-(nI 2), up P 13 2 (P 13 2 + 1)) = d5_put P (nI jx) y z := (by unfold d5_put; (try simp only [cN_nI (show jx < 65536 by omega)]); rw [if_neg c_5, if_pos c_17])
      exact f_mreti hx hb hr hlocks hI dX5_put_26 () (congrArg (fun z => some (Value.int z.1)) hE) trivial (congrArg (fun z => MO dA am z.2 T G L kt tr) hE)
def d5_rise (P : Nat → Nat → Int32) (x : Int32) (y : Int32) : Int32 × (Nat → Nat → Int32) := if (d5_isStep P x) = 0 then (-(nI 2), up P 13 2 (P 13 2 + 1)) else (if (d5_in y.toInt64 1 20) = 0 then (-(nI 2), up P 13 2 (P 13 2 + 1)) else (P 0 (cN x), up P 0 (cN x) y))
set_option maxHeartbeats 4000000 in
set_option maxRecDepth 100000 in
theorem m5_rise (l : Launch) (D : va_G) (dA : Nat → ClassId) (am : Nat → Nat) (P T : Nat → Nat → Int32) (G : Nat → Int32) (L : Nat → Nat → Int64) (kt tr : Option Nat) (sz : Nat) (S : Nat) (x : Int32) (y : Int32) (hst : P 7 0 = nI S) (hS : S ≤ 9) : Met l yX5_rise (ws_ yX5_rise cX5_rise 4 (some .int)) ({ frames := 2, cells := 0, slots := 0, locals := 46 } : Room) (fPm D dA (MO dA am P T G L kt tr) sz [.ref (am 0), .int x, .int y]) (fQm (S := Unit) D (MO dA am P T G L kt tr) sz (fun _ => some (.int ((d5_rise P x y).1))) (fun _ => True) (fun _ => MO dA am ((d5_rise P x y).2) T G L kt tr)) 0 0 (fA (MO dA am P T G L kt tr) sz) := by
  refine Met.ofW (cc := cX5_rise) (maxL := 4) (ret := (some .int)) (by decide) rfl ?_
  intro p e s m args below meth c s₁ B hml hv
  obtain ⟨rfl, hsz, hP0, hG, hD0⟩ := hv
  have hK := hG.1
  have hx := B.exec
  have hb := B.bytes
  have hr := B.returns
  have hts := atoms_spec (ws := (ws_ yX5_rise cX5_rise 4 (some .int))) B.pre
  have hts : ∀ w ∈ lw_all, w.before _ s = true := fun w h => hts w (List.mem_cons_of_mem _ h)
  have hown : s.vm.findClass RX5 = some m.cls := findClass_of_methodNamed B.named
  have hlocks := B.notSynchronized
  subst hsz
  have hI := FI.start hP0 hD0
  have hl := lv_entry ([.ref (am 0), .int x, .int y]) (n := 4) (Nat.le_of_ble_eq_true rfl)
  rw [lg_entry_eq]
  generalize (lg_sl ([.ref (am 0), .int x, .int y]) ++ List.replicate (4 - (lg_sl ([.ref (am 0), .int x, .int y])).length) Slot.unset).toArray = ls at hl ⊢
  have hl : lv_has ls 4 [(0, .ref (am 0)), (1, .int x), (2, .int y)] := hl
  refine lv_aload_n hx hb dX5_rise_0 rfl (lv_at hl 0 rfl) ?_
  refine lv_iload_n hx hb dX5_rise_1 rfl (lv_at hl 1 rfl) ?_
  refine f_pV hx hb hml hown hts (m5_isStep l D dA am P T G L kt tr  x ) (cwV 1 hts (lw_V q1715 q1717 qs41 q79 q1718) rfl rfl rfl (by decide +kernel) ⟨Nat.le_of_ble_eq_true rfl, Nat.le_of_ble_eq_true rfl⟩) hG hI.1 f_id MO_0 rfl rfl hl.1 rfl (Nat.le_of_ble_eq_true rfl) dX5_rise_2 ⟨Nat.zero_le _, Nat.zero_le _⟩ ?_
  refine lv_if_eq (tgt := 20) hx hb dX5_rise_5 (by decide) (fun c_5 => ?_) (fun c_5 => ?_)
  · refine lv_aload_n hx hb dX5_rise_20 rfl (lv_at hl 0 rfl) ?_
    refine lv_bipush (v := -2) hx hb dX5_rise_21 (by decide) ?_
    refine f_mV0 hx hb hml hown hts (m5_refuse l D dA am P T G L kt tr _  2 (by omega)) (cwV 1 hts (lw_V q1629 q1631 qs32 q79 q1632) rfl rfl rfl (by decide +kernel) ⟨Nat.le_of_ble_eq_true rfl, Nat.le_of_ble_eq_true rfl⟩) hG hI MO_0 rfl rfl hl.1 rfl (Nat.le_of_ble_eq_true rfl) dX5_rise_23 ⟨Nat.zero_le _, Nat.zero_le _⟩ (fun _ H locs _ hI => ?_)
    have hE : (-(nI 2), up P 13 2 (P 13 2 + 1)) = d5_rise P x y := (by unfold d5_rise; rw [if_pos c_5])
    exact f_mreti hx hb hr hlocks hI dX5_rise_26 () (congrArg (fun z => some (Value.int z.1)) hE) trivial (congrArg (fun z => MO dA am z.2 T G L kt tr) hE)
  · obtain ⟨jx, h_jx, rfl⟩ := isStep_nat c_5 hst hS
    refine lv_iload_n hx hb dX5_rise_8 rfl (lv_at hl 2 rfl) ?_
    refine lv_i2l (v := y.toInt64) hx hb dX5_rise_9 rfl ?_
    refine lv_lconst (v := 1) hx hb dX5_rise_10 (by decide) ?_
    refine lv_ldc2 (v := 20) hx hb hown (hts _ q1692) dX5_rise_11 ?_
    refine f_pS hx hb hml hown hts (m5_in l D dA (MO dA am P T G L kt tr)  y.toInt64 1 20 ) (va_cwS 3 hts (lw_S q1624 q1625 q79 q1626) rfl rfl rfl (by decide +kernel) ⟨Nat.le_of_ble_eq_true rfl, Nat.le_of_ble_eq_true rfl⟩) hG hI.1 f_id rfl hl.1 rfl (Nat.le_of_ble_eq_true rfl) dX5_rise_14 ⟨Nat.zero_le _, Nat.zero_le _⟩ ?_
    refine lv_if_ne (tgt := 27) hx hb dX5_rise_17 (by decide) (fun c_17 => ?_) (fun c_17 => ?_)
    · refine lv_aload_n hx hb dX5_rise_27 rfl (lv_at hl 0 rfl) ?_
      refine f_get hx hb hts in_X5 hown hK hI.1 0 MO_0 rfl 10 (by decide) (hts _ q1520) (fun x h => h) rfl dX5_rise_28 ?_
      refine lv_iload_n hx hb dX5_rise_31 rfl (lv_at hl 1 rfl) ?_
      refine f_iald hx hb hK hI.1 9 0 MO_9 rfl jx rfl (by omega) (by decide) dX5_rise_32 ?_
      refine lv_istore_n (lv' := [(3, .int (P 0 jx)), (0, .ref (am 0)), (1, .int (nI jx)), (2, .int y)]) hx hb dX5_rise_33 rfl hl (by decide) rfl (fun ls hl => ?_)
      refine lv_aload_n hx hb dX5_rise_34 rfl (lv_at hl 1 rfl) ?_
      refine f_get hx hb hts in_X5 hown hK hI.1 0 MO_0 rfl 10 (by decide) (hts _ q1520) (fun x h => h) rfl dX5_rise_35 ?_
      refine lv_iload_n hx hb dX5_rise_38 rfl (lv_at hl 2 rfl) ?_
      refine lv_iload_n hx hb dX5_rise_39 rfl (lv_at hl 3 rfl) ?_
      refine f_iast hx hb hK hI 9 0 MO_9 rfl jx rfl (by omega) (by decide) dX5_rise_40 (fun H locs hI => ?_)
      have hI := hI.congr MO_a9
      refine lv_iload_n hx hb dX5_rise_41 rfl (lv_at hl 0 rfl) ?_
      have hE : (P 0 jx, up P 0 jx y) = d5_rise P (nI jx) y := (by unfold d5_rise; (try simp only [cN_nI (show jx < 65536 by omega)]); rw [if_neg c_5, if_neg c_17])
      exact f_mreti hx hb hr hlocks hI dX5_rise_42 () (congrArg (fun z => some (Value.int z.1)) hE) trivial (congrArg (fun z => MO dA am z.2 T G L kt tr) hE)
    · refine lv_aload_n hx hb dX5_rise_20 rfl (lv_at hl 0 rfl) ?_
      refine lv_bipush (v := -2) hx hb dX5_rise_21 (by decide) ?_
      refine f_mV0 hx hb hml hown hts (m5_refuse l D dA am P T G L kt tr _  2 (by omega)) (cwV 1 hts (lw_V q1629 q1631 qs32 q79 q1632) rfl rfl rfl (by decide +kernel) ⟨Nat.le_of_ble_eq_true rfl, Nat.le_of_ble_eq_true rfl⟩) hG hI MO_0 rfl rfl hl.1 rfl (Nat.le_of_ble_eq_true rfl) dX5_rise_23 ⟨Nat.zero_le _, Nat.zero_le _⟩ (fun _ H locs _ hI => ?_)
      have hE : (-(nI 2), up P 13 2 (P 13 2 + 1)) = d5_rise P (nI jx) y := (by unfold d5_rise; (try simp only [cN_nI (show jx < 65536 by omega)]); rw [if_neg c_5, if_pos c_17])
      exact f_mreti hx hb hr hlocks hI dX5_rise_26 () (congrArg (fun z => some (Value.int z.1)) hE) trivial (congrArg (fun z => MO dA am z.2 T G L kt tr) hE)
def d5_feed (P : Nat → Nat → Int32) (G : Nat → Int32) (x : Int32) (Z : Nat) : Int32 × (Nat → Nat → Int32) × (Nat → Int32) := if (d5_in x.toInt64 0 255) = 0 then (-(nI 2), up P 13 2 (P 13 2 + 1), G) else (if (G 0) = 250 then (-(nI 6), up P 13 6 (P 13 6 + 1), G) else ((G 0) + 1, up P 12 Z (x), upd G 0 ((G 0) + 1)))
set_option maxHeartbeats 4000000 in
set_option maxRecDepth 100000 in
theorem m5_feed (l : Launch) (D : va_G) (dA : Nat → ClassId) (am : Nat → Nat) (P T : Nat → Nat → Int32) (G : Nat → Int32) (L : Nat → Nat → Int64) (kt tr : Option Nat) (sz : Nat) (Z : Nat) (x : Int32) (htz : G 0 = nI Z) (hZ : Z ≤ 250) : Met l yX5_feed (ws_ yX5_feed cX5_feed 2 (some .int)) ({ frames := 1, cells := 0, slots := 0, locals := 25 } : Room) (fPm D dA (MO dA am P T G L kt tr) sz [.ref (am 0), .int x]) (fQm (S := Unit) D (MO dA am P T G L kt tr) sz (fun _ => some (.int ((d5_feed P G x Z).1))) (fun _ => True) (fun _ => MO dA am ((d5_feed P G x Z).2.1) T ((d5_feed P G x Z).2.2) L kt tr)) 0 0 (fA (MO dA am P T G L kt tr) sz) := by
  refine Met.ofW (cc := cX5_feed) (maxL := 2) (ret := (some .int)) (by decide) rfl ?_
  intro p e s m args below meth c s₁ B hml hv
  obtain ⟨rfl, hsz, hP0, hG, hD0⟩ := hv
  have hK := hG.1
  have hx := B.exec
  have hb := B.bytes
  have hr := B.returns
  have hts := atoms_spec (ws := (ws_ yX5_feed cX5_feed 2 (some .int))) B.pre
  have hts : ∀ w ∈ lw_all, w.before _ s = true := fun w h => hts w (List.mem_cons_of_mem _ h)
  have hown : s.vm.findClass RX5 = some m.cls := findClass_of_methodNamed B.named
  have hlocks := B.notSynchronized
  subst hsz
  have hI := FI.start hP0 hD0
  have hl := lv_entry ([.ref (am 0), .int x]) (n := 2) (Nat.le_of_ble_eq_true rfl)
  rw [lg_entry_eq]
  generalize (lg_sl ([.ref (am 0), .int x]) ++ List.replicate (2 - (lg_sl ([.ref (am 0), .int x])).length) Slot.unset).toArray = ls at hl ⊢
  have hl : lv_has ls 2 [(0, .ref (am 0)), (1, .int x)] := hl
  refine lv_iload_n hx hb dX5_feed_0 rfl (lv_at hl 1 rfl) ?_
  refine lv_i2l (v := x.toInt64) hx hb dX5_feed_1 rfl ?_
  refine lv_lconst (v := 0) hx hb dX5_feed_2 (by decide) ?_
  refine lv_ldc2 (v := 255) hx hb hown (hts _ q1728) dX5_feed_3 ?_
  refine f_pS hx hb hml hown hts (m5_in l D dA (MO dA am P T G L kt tr)  x.toInt64 0 255 ) (va_cwS 3 hts (lw_S q1624 q1625 q79 q1626) rfl rfl rfl (by decide +kernel) ⟨Nat.le_of_ble_eq_true rfl, Nat.le_of_ble_eq_true rfl⟩) hG hI.1 f_id rfl hl.1 rfl (Nat.le_of_ble_eq_true rfl) dX5_feed_6 ⟨Nat.zero_le _, Nat.zero_le _⟩ ?_
  refine lv_if_ne (tgt := 19) hx hb dX5_feed_9 (by decide) (fun c_9 => ?_) (fun c_9 => ?_)
  · obtain ⟨jx, h_jx, rfl⟩ := in_nat c_9 (n := 255) (by decide) (by decide)
    refine lv_aload_n hx hb dX5_feed_19 rfl (lv_at hl 0 rfl) ?_
    refine f_get hx hb hts in_X5 hown hK hI.1 0 MO_0 rfl 7 (by decide) (hts _ q1517) (fun x h => h) rfl dX5_feed_20 ?_
    refine lv_sipush (v := 250) hx hb dX5_feed_23 (by decide) ?_
    refine lv_icmp_ne (tgt := 36) hx hb dX5_feed_26 (by decide) (fun c_26 => ?_) (fun c_26 => ?_)
    · have e_26 := (not_congr (nat_eq (a := Z) (b := 250) htz rfl (by omega) (by omega))).mp c_26
      refine lv_aload_n hx hb dX5_feed_36 rfl (lv_at hl 0 rfl) ?_
      refine f_get hx hb hts in_X5 hown hK hI.1 0 MO_0 rfl 6 (by decide) (hts _ q1516) (fun x h => h) rfl dX5_feed_37 ?_
      refine lv_aload_n hx hb dX5_feed_40 rfl (lv_at hl 0 rfl) ?_
      refine lv_dup hx hb dX5_feed_41 rfl ?_
      refine f_get hx hb hts in_X5 hown hK hI.1 0 MO_0 rfl 7 (by decide) (hts _ q1517) (fun x h => h) rfl dX5_feed_42 ?_
      refine lv_dup_x1 hx hb dX5_feed_45 rfl rfl ?_
      refine lv_iconst (v := 1) hx hb dX5_feed_46 (by decide) ?_
      refine lv_iadd hx hb dX5_feed_47 ?_
      refine f_put hx hb hts in_X5 tyX5 tyX5_ok nmX5 hown hK hI 0 MO_0 rfl 7 (by decide) (hts _ q1517) (fun x h => h) rfl (ttyX5_7) rfl rfl (Nat.le_of_ble_eq_true rfl) dX5_feed_48 (fun H locs hI => ?_)
      have hI := hI.congr MO_f7
      refine lv_iload_n hx hb dX5_feed_51 rfl (lv_at hl 1 rfl) ?_
      refine f_iast hx hb hK hI 7 0 MO_7 rfl Z htz (by omega) (by decide) dX5_feed_52 (fun H locs hI => ?_)
      have hI := hI.congr MO_a7
      refine lv_aload_n hx hb dX5_feed_53 rfl (lv_at hl 0 rfl) ?_
      refine f_get hx hb hts in_X5 hown hK hI.1 0 MO_0 rfl 7 (by decide) (hts _ q1517) (fun x h => h) rfl dX5_feed_54 ?_
      have hE : ((G 0) + 1, up P 12 Z (nI jx), upd G 0 ((G 0) + 1)) = d5_feed P G (nI jx) Z := (by unfold d5_feed; (try simp only [cN_nI (show jx < 65536 by omega)]); rw [if_neg c_9, if_neg c_26])
      exact f_mreti hx hb hr hlocks hI dX5_feed_57 () (congrArg (fun z => some (Value.int z.1)) hE) trivial (congrArg (fun z => MO dA am z.2.1 T z.2.2 L kt tr) hE)
    · have e_26 := (nat_eq (a := Z) (b := 250) htz rfl (by omega) (by omega)).mp c_26
      refine lv_aload_n hx hb dX5_feed_29 rfl (lv_at hl 0 rfl) ?_
      refine lv_bipush (v := -6) hx hb dX5_feed_30 (by decide) ?_
      refine f_mV0 hx hb hml hown hts (m5_refuse l D dA am P T G L kt tr _  6 (by omega)) (cwV 1 hts (lw_V q1629 q1631 qs32 q79 q1632) rfl rfl rfl (by decide +kernel) ⟨Nat.le_of_ble_eq_true rfl, Nat.le_of_ble_eq_true rfl⟩) hG hI MO_0 rfl rfl hl.1 rfl (Nat.le_of_ble_eq_true rfl) dX5_feed_32 ⟨Nat.zero_le _, Nat.zero_le _⟩ (fun _ H locs _ hI => ?_)
      have hE : (-(nI 6), up P 13 6 (P 13 6 + 1), G) = d5_feed P G (nI jx) Z := (by unfold d5_feed; (try simp only [cN_nI (show jx < 65536 by omega)]); rw [if_neg c_9, if_pos c_26])
      exact f_mreti hx hb hr hlocks hI dX5_feed_35 () (congrArg (fun z => some (Value.int z.1)) hE) trivial (congrArg (fun z => MO dA am z.2.1 T z.2.2 L kt tr) hE)
  · refine lv_aload_n hx hb dX5_feed_12 rfl (lv_at hl 0 rfl) ?_
    refine lv_bipush (v := -2) hx hb dX5_feed_13 (by decide) ?_
    refine f_mV0 hx hb hml hown hts (m5_refuse l D dA am P T G L kt tr _  2 (by omega)) (cwV 1 hts (lw_V q1629 q1631 qs32 q79 q1632) rfl rfl rfl (by decide +kernel) ⟨Nat.le_of_ble_eq_true rfl, Nat.le_of_ble_eq_true rfl⟩) hG hI MO_0 rfl rfl hl.1 rfl (Nat.le_of_ble_eq_true rfl) dX5_feed_15 ⟨Nat.zero_le _, Nat.zero_le _⟩ (fun _ H locs _ hI => ?_)
    have hE : (-(nI 2), up P 13 2 (P 13 2 + 1), G) = d5_feed P G x Z := (by unfold d5_feed; rw [if_pos c_9])
    exact f_mreti hx hb hr hlocks hI dX5_feed_18 () (congrArg (fun z => some (Value.int z.1)) hE) trivial (congrArg (fun z => MO dA am z.2.1 T z.2.2 L kt tr) hE)
def d5_wipe (G : Nat → Int32) : Int32 × (Nat → Int32) := (G 0, upd G 0 0)
set_option maxHeartbeats 4000000 in
set_option maxRecDepth 100000 in
theorem m5_wipe (l : Launch) (D : va_G) (dA : Nat → ClassId) (am : Nat → Nat) (P T : Nat → Nat → Int32) (G : Nat → Int32) (L : Nat → Nat → Int64) (kt tr : Option Nat) (sz : Nat)    : Met l yX5_wipe (ws_ yX5_wipe cX5_wipe 2 (some .int)) ({ frames := 0, cells := 0, slots := 0, locals := 0 } : Room) (fPm D dA (MO dA am P T G L kt tr) sz [.ref (am 0)]) (fQm (S := Unit) D (MO dA am P T G L kt tr) sz (fun _ => some (.int ((d5_wipe G).1))) (fun _ => True) (fun _ => MO dA am P T ((d5_wipe G).2) L kt tr)) 0 0 (fA (MO dA am P T G L kt tr) sz) := by
  refine Met.ofW (cc := cX5_wipe) (maxL := 2) (ret := (some .int)) (by decide) rfl ?_
  intro p e s m args below meth c s₁ B hml hv
  obtain ⟨rfl, hsz, hP0, hG, hD0⟩ := hv
  have hK := hG.1
  have hx := B.exec
  have hb := B.bytes
  have hr := B.returns
  have hts := atoms_spec (ws := (ws_ yX5_wipe cX5_wipe 2 (some .int))) B.pre
  have hts : ∀ w ∈ lw_all, w.before _ s = true := fun w h => hts w (List.mem_cons_of_mem _ h)
  have hown : s.vm.findClass RX5 = some m.cls := findClass_of_methodNamed B.named
  have hlocks := B.notSynchronized
  subst hsz
  have hI := FI.start hP0 hD0
  have hl := lv_entry ([.ref (am 0)]) (n := 2) (Nat.le_of_ble_eq_true rfl)
  rw [lg_entry_eq]
  generalize (lg_sl ([.ref (am 0)]) ++ List.replicate (2 - (lg_sl ([.ref (am 0)])).length) Slot.unset).toArray = ls at hl ⊢
  have hl : lv_has ls 2 [(0, .ref (am 0))] := hl
  refine lv_aload_n hx hb dX5_wipe_0 rfl (lv_at hl 0 rfl) ?_
  refine f_get hx hb hts in_X5 hown hK hI.1 0 MO_0 rfl 7 (by decide) (hts _ q1517) (fun x h => h) rfl dX5_wipe_1 ?_
  refine lv_istore_n (lv' := [(1, .int (G 0)), (0, .ref (am 0))]) hx hb dX5_wipe_4 rfl hl (by decide) rfl (fun ls hl => ?_)
  refine lv_aload_n hx hb dX5_wipe_5 rfl (lv_at hl 1 rfl) ?_
  refine lv_iconst (v := 0) hx hb dX5_wipe_6 (by decide) ?_
  refine f_put hx hb hts in_X5 tyX5 tyX5_ok nmX5 hown hK hI 0 MO_0 rfl 7 (by decide) (hts _ q1517) (fun x h => h) rfl (ttyX5_7) rfl rfl (Nat.le_of_ble_eq_true rfl) dX5_wipe_7 (fun H locs hI => ?_)
  have hI := hI.congr MO_f7
  refine lv_iload_n hx hb dX5_wipe_10 rfl (lv_at hl 0 rfl) ?_
  have hE : (G 0, upd G 0 0) = d5_wipe G := (by unfold d5_wipe; rfl)
  exact f_mreti hx hb hr hlocks hI dX5_wipe_11 () (congrArg (fun z => some (Value.int z.1)) hE) trivial (congrArg (fun z => MO dA am P T z.2 L kt tr) hE)
def d5_stepOf (P : Nat → Nat → Int32) (x : Int32) (y : Int32) : Int32 × (Nat → Nat → Int32) := if (d5_isStep P x) = 0 then (-(nI 2), up P 13 2 (P 13 2 + 1)) else (if (d5_in y.toInt64 0 3) = 0 then (-(nI 2), up P 13 2 (P 13 2 + 1)) else (if (y) = 0 then (P 0 (cN x), P) else (if (y) = 1 then (if (P 3 (cN x)) = 0 then (0, P) else (1, P)) else (if (y) = 2 then (if (P 1 (cN x)) = 0 then (0, P) else (1, P)) else (if (P 2 (cN x)) = 0 then (0, P) else (1, P))))))
set_option maxHeartbeats 4000000 in
set_option maxRecDepth 100000 in
theorem m5_stepOf (l : Launch) (D : va_G) (dA : Nat → ClassId) (am : Nat → Nat) (P T : Nat → Nat → Int32) (G : Nat → Int32) (L : Nat → Nat → Int64) (kt tr : Option Nat) (sz : Nat) (S : Nat) (x : Int32) (y : Int32) (hst : P 7 0 = nI S) (hS : S ≤ 9) : Met l yX5_stepOf (ws_ yX5_stepOf cX5_stepOf 3 (some .int)) ({ frames := 2, cells := 0, slots := 0, locals := 46 } : Room) (fPm D dA (MO dA am P T G L kt tr) sz [.ref (am 0), .int x, .int y]) (fQm (S := Unit) D (MO dA am P T G L kt tr) sz (fun _ => some (.int ((d5_stepOf P x y).1))) (fun _ => True) (fun _ => MO dA am ((d5_stepOf P x y).2) T G L kt tr)) 0 0 (fA (MO dA am P T G L kt tr) sz) := by
  refine Met.ofW (cc := cX5_stepOf) (maxL := 3) (ret := (some .int)) (by decide) rfl ?_
  intro p e s m args below meth c s₁ B hml hv
  obtain ⟨rfl, hsz, hP0, hG, hD0⟩ := hv
  have hK := hG.1
  have hx := B.exec
  have hb := B.bytes
  have hr := B.returns
  have hts := atoms_spec (ws := (ws_ yX5_stepOf cX5_stepOf 3 (some .int))) B.pre
  have hts : ∀ w ∈ lw_all, w.before _ s = true := fun w h => hts w (List.mem_cons_of_mem _ h)
  have hown : s.vm.findClass RX5 = some m.cls := findClass_of_methodNamed B.named
  have hlocks := B.notSynchronized
  subst hsz
  have hI := FI.start hP0 hD0
  have hl := lv_entry ([.ref (am 0), .int x, .int y]) (n := 3) (Nat.le_of_ble_eq_true rfl)
  rw [lg_entry_eq]
  generalize (lg_sl ([.ref (am 0), .int x, .int y]) ++ List.replicate (3 - (lg_sl ([.ref (am 0), .int x, .int y])).length) Slot.unset).toArray = ls at hl ⊢
  have hl : lv_has ls 3 [(0, .ref (am 0)), (1, .int x), (2, .int y)] := hl
  refine lv_aload_n hx hb dX5_stepOf_0 rfl (lv_at hl 0 rfl) ?_
  refine lv_iload_n hx hb dX5_stepOf_1 rfl (lv_at hl 1 rfl) ?_
  refine f_pV hx hb hml hown hts (m5_isStep l D dA am P T G L kt tr  x ) (cwV 1 hts (lw_V q1715 q1717 qs41 q79 q1718) rfl rfl rfl (by decide +kernel) ⟨Nat.le_of_ble_eq_true rfl, Nat.le_of_ble_eq_true rfl⟩) hG hI.1 f_id MO_0 rfl rfl hl.1 rfl (Nat.le_of_ble_eq_true rfl) dX5_stepOf_2 ⟨Nat.zero_le _, Nat.zero_le _⟩ ?_
  refine lv_if_eq (tgt := 20) hx hb dX5_stepOf_5 (by decide) (fun c_5 => ?_) (fun c_5 => ?_)
  · refine lv_aload_n hx hb dX5_stepOf_20 rfl (lv_at hl 0 rfl) ?_
    refine lv_bipush (v := -2) hx hb dX5_stepOf_21 (by decide) ?_
    refine f_mV0 hx hb hml hown hts (m5_refuse l D dA am P T G L kt tr _  2 (by omega)) (cwV 1 hts (lw_V q1629 q1631 qs32 q79 q1632) rfl rfl rfl (by decide +kernel) ⟨Nat.le_of_ble_eq_true rfl, Nat.le_of_ble_eq_true rfl⟩) hG hI MO_0 rfl rfl hl.1 rfl (Nat.le_of_ble_eq_true rfl) dX5_stepOf_23 ⟨Nat.zero_le _, Nat.zero_le _⟩ (fun _ H locs _ hI => ?_)
    have hE : (-(nI 2), up P 13 2 (P 13 2 + 1)) = d5_stepOf P x y := (by unfold d5_stepOf; rw [if_pos c_5])
    exact f_mreti hx hb hr hlocks hI dX5_stepOf_26 () (congrArg (fun z => some (Value.int z.1)) hE) trivial (congrArg (fun z => MO dA am z.2 T G L kt tr) hE)
  · obtain ⟨jx, h_jx, rfl⟩ := isStep_nat c_5 hst hS
    refine lv_iload_n hx hb dX5_stepOf_8 rfl (lv_at hl 2 rfl) ?_
    refine lv_i2l (v := y.toInt64) hx hb dX5_stepOf_9 rfl ?_
    refine lv_lconst (v := 0) hx hb dX5_stepOf_10 (by decide) ?_
    refine lv_ldc2 (v := 3) hx hb hown (hts _ q1829) dX5_stepOf_11 ?_
    refine f_pS hx hb hml hown hts (m5_in l D dA (MO dA am P T G L kt tr)  y.toInt64 0 3 ) (va_cwS 3 hts (lw_S q1624 q1625 q79 q1626) rfl rfl rfl (by decide +kernel) ⟨Nat.le_of_ble_eq_true rfl, Nat.le_of_ble_eq_true rfl⟩) hG hI.1 f_id rfl hl.1 rfl (Nat.le_of_ble_eq_true rfl) dX5_stepOf_14 ⟨Nat.zero_le _, Nat.zero_le _⟩ ?_
    refine lv_if_ne (tgt := 27) hx hb dX5_stepOf_17 (by decide) (fun c_17 => ?_) (fun c_17 => ?_)
    · obtain ⟨jy, h_jy, rfl⟩ := in_nat c_17 (n := 3) (by decide) (by decide)
      refine lv_iload_n hx hb dX5_stepOf_27 rfl (lv_at hl 2 rfl) ?_
      refine lv_if_ne (tgt := 38) hx hb dX5_stepOf_28 (by decide) (fun c_28 => ?_) (fun c_28 => ?_)
      · have e_28 := (not_congr (nat_eq (a := jy) (b := 0) rfl rfl (by omega) (by omega))).mp c_28
        refine lv_iload_n hx hb dX5_stepOf_38 rfl (lv_at hl 2 rfl) ?_
        refine lv_iconst (v := 1) hx hb dX5_stepOf_39 (by decide) ?_
        refine lv_icmp_ne (tgt := 55) hx hb dX5_stepOf_40 (by decide) (fun c_40 => ?_) (fun c_40 => ?_)
        · have e_40 := (not_congr (nat_eq (a := jy) (b := 1) rfl rfl (by omega) (by omega))).mp c_40
          refine lv_iload_n hx hb dX5_stepOf_55 rfl (lv_at hl 2 rfl) ?_
          refine lv_iconst (v := 2) hx hb dX5_stepOf_56 (by decide) ?_
          refine lv_icmp_ne (tgt := 72) hx hb dX5_stepOf_57 (by decide) (fun c_57 => ?_) (fun c_57 => ?_)
          · have e_57 := (not_congr (nat_eq (a := jy) (b := 2) rfl rfl (by omega) (by omega))).mp c_57
            refine lv_aload_n hx hb dX5_stepOf_72 rfl (lv_at hl 0 rfl) ?_
            refine f_get hx hb hts in_X5 hown hK hI.1 0 MO_0 rfl 12 (by decide) (hts _ q1522) (fun x h => h) rfl dX5_stepOf_73 ?_
            refine lv_iload_n hx hb dX5_stepOf_76 rfl (lv_at hl 1 rfl) ?_
            refine f_zald hx hb hK hI.1 11 4 MO_11 rfl jx rfl (by omega) (by decide) dX5_stepOf_77 ?_
            refine lv_if_eq (tgt := 85) hx hb dX5_stepOf_78 (by decide) (fun c_78 => ?_) (fun c_78 => ?_)
            · refine lv_iconst (v := 0) hx hb dX5_stepOf_85 (by decide) ?_
              have hE : (0, P) = d5_stepOf P (nI jx) (nI jy) := (by unfold d5_stepOf; (try simp only [cN_nI (show jx < 65536 by omega), cN_nI (show jy < 65536 by omega)]); rw [if_neg c_5, if_neg c_17, if_neg c_28, if_neg c_40, if_neg c_57, if_pos c_78])
              exact f_mreti hx hb hr hlocks hI dX5_stepOf_86 () (congrArg (fun z => some (Value.int z.1)) hE) trivial (congrArg (fun z => MO dA am z.2 T G L kt tr) hE)
            · refine lv_iconst (v := 1) hx hb dX5_stepOf_81 (by decide) ?_
              refine lv_goto (tgt := 86) hx hb dX5_stepOf_82 (by decide) ?_
              have hE : (1, P) = d5_stepOf P (nI jx) (nI jy) := (by unfold d5_stepOf; (try simp only [cN_nI (show jx < 65536 by omega), cN_nI (show jy < 65536 by omega)]); rw [if_neg c_5, if_neg c_17, if_neg c_28, if_neg c_40, if_neg c_57, if_neg c_78])
              exact f_mreti hx hb hr hlocks hI dX5_stepOf_86 () (congrArg (fun z => some (Value.int z.1)) hE) trivial (congrArg (fun z => MO dA am z.2 T G L kt tr) hE)
          · have e_57 := (nat_eq (a := jy) (b := 2) rfl rfl (by omega) (by omega)).mp c_57
            refine lv_aload_n hx hb dX5_stepOf_60 rfl (lv_at hl 0 rfl) ?_
            refine f_get hx hb hts in_X5 hown hK hI.1 0 MO_0 rfl 11 (by decide) (hts _ q1521) (fun x h => h) rfl dX5_stepOf_61 ?_
            refine lv_iload_n hx hb dX5_stepOf_64 rfl (lv_at hl 1 rfl) ?_
            refine f_zald hx hb hK hI.1 10 4 MO_10 rfl jx rfl (by omega) (by decide) dX5_stepOf_65 ?_
            refine lv_if_eq (tgt := 85) hx hb dX5_stepOf_66 (by decide) (fun c_66 => ?_) (fun c_66 => ?_)
            · refine lv_iconst (v := 0) hx hb dX5_stepOf_85 (by decide) ?_
              have hE : (0, P) = d5_stepOf P (nI jx) (nI jy) := (by unfold d5_stepOf; (try simp only [cN_nI (show jx < 65536 by omega), cN_nI (show jy < 65536 by omega)]); rw [if_neg c_5, if_neg c_17, if_neg c_28, if_neg c_40, if_pos c_57, if_pos c_66])
              exact f_mreti hx hb hr hlocks hI dX5_stepOf_86 () (congrArg (fun z => some (Value.int z.1)) hE) trivial (congrArg (fun z => MO dA am z.2 T G L kt tr) hE)
            · refine lv_goto (tgt := 81) hx hb dX5_stepOf_69 (by decide) ?_
              refine lv_iconst (v := 1) hx hb dX5_stepOf_81 (by decide) ?_
              refine lv_goto (tgt := 86) hx hb dX5_stepOf_82 (by decide) ?_
              have hE : (1, P) = d5_stepOf P (nI jx) (nI jy) := (by unfold d5_stepOf; (try simp only [cN_nI (show jx < 65536 by omega), cN_nI (show jy < 65536 by omega)]); rw [if_neg c_5, if_neg c_17, if_neg c_28, if_neg c_40, if_pos c_57, if_neg c_66])
              exact f_mreti hx hb hr hlocks hI dX5_stepOf_86 () (congrArg (fun z => some (Value.int z.1)) hE) trivial (congrArg (fun z => MO dA am z.2 T G L kt tr) hE)
        · have e_40 := (nat_eq (a := jy) (b := 1) rfl rfl (by omega) (by omega)).mp c_40
          refine lv_aload_n hx hb dX5_stepOf_43 rfl (lv_at hl 0 rfl) ?_
          refine f_get hx hb hts in_X5 hown hK hI.1 0 MO_0 rfl 13 (by decide) (hts _ q1523) (fun x h => h) rfl dX5_stepOf_44 ?_
          refine lv_iload_n hx hb dX5_stepOf_47 rfl (lv_at hl 1 rfl) ?_
          refine f_zald hx hb hK hI.1 12 4 MO_12 rfl jx rfl (by omega) (by decide) dX5_stepOf_48 ?_
          refine lv_if_eq (tgt := 85) hx hb dX5_stepOf_49 (by decide) (fun c_49 => ?_) (fun c_49 => ?_)
          · refine lv_iconst (v := 0) hx hb dX5_stepOf_85 (by decide) ?_
            have hE : (0, P) = d5_stepOf P (nI jx) (nI jy) := (by unfold d5_stepOf; (try simp only [cN_nI (show jx < 65536 by omega), cN_nI (show jy < 65536 by omega)]); rw [if_neg c_5, if_neg c_17, if_neg c_28, if_pos c_40, if_pos c_49])
            exact f_mreti hx hb hr hlocks hI dX5_stepOf_86 () (congrArg (fun z => some (Value.int z.1)) hE) trivial (congrArg (fun z => MO dA am z.2 T G L kt tr) hE)
          · refine lv_goto (tgt := 81) hx hb dX5_stepOf_52 (by decide) ?_
            refine lv_iconst (v := 1) hx hb dX5_stepOf_81 (by decide) ?_
            refine lv_goto (tgt := 86) hx hb dX5_stepOf_82 (by decide) ?_
            have hE : (1, P) = d5_stepOf P (nI jx) (nI jy) := (by unfold d5_stepOf; (try simp only [cN_nI (show jx < 65536 by omega), cN_nI (show jy < 65536 by omega)]); rw [if_neg c_5, if_neg c_17, if_neg c_28, if_pos c_40, if_neg c_49])
            exact f_mreti hx hb hr hlocks hI dX5_stepOf_86 () (congrArg (fun z => some (Value.int z.1)) hE) trivial (congrArg (fun z => MO dA am z.2 T G L kt tr) hE)
      · have e_28 := (nat_eq (a := jy) (b := 0) rfl rfl (by omega) (by omega)).mp c_28
        refine lv_aload_n hx hb dX5_stepOf_31 rfl (lv_at hl 0 rfl) ?_
        refine f_get hx hb hts in_X5 hown hK hI.1 0 MO_0 rfl 10 (by decide) (hts _ q1520) (fun x h => h) rfl dX5_stepOf_32 ?_
        refine lv_iload_n hx hb dX5_stepOf_35 rfl (lv_at hl 1 rfl) ?_
        refine f_iald hx hb hK hI.1 9 0 MO_9 rfl jx rfl (by omega) (by decide) dX5_stepOf_36 ?_
        have hE : (P 0 jx, P) = d5_stepOf P (nI jx) (nI jy) := (by unfold d5_stepOf; (try simp only [cN_nI (show jx < 65536 by omega), cN_nI (show jy < 65536 by omega)]); rw [if_neg c_5, if_neg c_17, if_pos c_28])
        exact f_mreti hx hb hr hlocks hI dX5_stepOf_37 () (congrArg (fun z => some (Value.int z.1)) hE) trivial (congrArg (fun z => MO dA am z.2 T G L kt tr) hE)
    · refine lv_aload_n hx hb dX5_stepOf_20 rfl (lv_at hl 0 rfl) ?_
      refine lv_bipush (v := -2) hx hb dX5_stepOf_21 (by decide) ?_
      refine f_mV0 hx hb hml hown hts (m5_refuse l D dA am P T G L kt tr _  2 (by omega)) (cwV 1 hts (lw_V q1629 q1631 qs32 q79 q1632) rfl rfl rfl (by decide +kernel) ⟨Nat.le_of_ble_eq_true rfl, Nat.le_of_ble_eq_true rfl⟩) hG hI MO_0 rfl rfl hl.1 rfl (Nat.le_of_ble_eq_true rfl) dX5_stepOf_23 ⟨Nat.zero_le _, Nat.zero_le _⟩ (fun _ H locs _ hI => ?_)
      have hE : (-(nI 2), up P 13 2 (P 13 2 + 1)) = d5_stepOf P (nI jx) y := (by unfold d5_stepOf; (try simp only [cN_nI (show jx < 65536 by omega)]); rw [if_neg c_5, if_pos c_17])
      exact f_mreti hx hb hr hlocks hI dX5_stepOf_26 () (congrArg (fun z => some (Value.int z.1)) hE) trivial (congrArg (fun z => MO dA am z.2 T G L kt tr) hE)
def d5_wayOf (P : Nat → Nat → Int32) (x : Int32) (y : Int32) : Int32 × (Nat → Nat → Int32) := if (d5_isWay P x.toInt64) = 0 then (-(nI 2), up P 13 2 (P 13 2 + 1)) else (if (d5_in y.toInt64 0 1) = 0 then (-(nI 2), up P 13 2 (P 13 2 + 1)) else (if (y) = 0 then (P 4 (cN x), P) else (P 5 (cN x), P)))
set_option maxHeartbeats 4000000 in
set_option maxRecDepth 100000 in
theorem m5_wayOf (l : Launch) (D : va_G) (dA : Nat → ClassId) (am : Nat → Nat) (P T : Nat → Nat → Int32) (G : Nat → Int32) (L : Nat → Nat → Int64) (kt tr : Option Nat) (sz : Nat) (Wn : Nat) (x : Int32) (y : Int32) (hwt : P 7 1 = nI Wn) (hW : Wn ≤ 6) : Met l yX5_wayOf (ws_ yX5_wayOf cX5_wayOf 3 (some .int)) ({ frames := 2, cells := 0, slots := 0, locals := 47 } : Room) (fPm D dA (MO dA am P T G L kt tr) sz [.ref (am 0), .int x, .int y]) (fQm (S := Unit) D (MO dA am P T G L kt tr) sz (fun _ => some (.int ((d5_wayOf P x y).1))) (fun _ => True) (fun _ => MO dA am ((d5_wayOf P x y).2) T G L kt tr)) 0 0 (fA (MO dA am P T G L kt tr) sz) := by
  refine Met.ofW (cc := cX5_wayOf) (maxL := 3) (ret := (some .int)) (by decide) rfl ?_
  intro p e s m args below meth c s₁ B hml hv
  obtain ⟨rfl, hsz, hP0, hG, hD0⟩ := hv
  have hK := hG.1
  have hx := B.exec
  have hb := B.bytes
  have hr := B.returns
  have hts := atoms_spec (ws := (ws_ yX5_wayOf cX5_wayOf 3 (some .int))) B.pre
  have hts : ∀ w ∈ lw_all, w.before _ s = true := fun w h => hts w (List.mem_cons_of_mem _ h)
  have hown : s.vm.findClass RX5 = some m.cls := findClass_of_methodNamed B.named
  have hlocks := B.notSynchronized
  subst hsz
  have hI := FI.start hP0 hD0
  have hl := lv_entry ([.ref (am 0), .int x, .int y]) (n := 3) (Nat.le_of_ble_eq_true rfl)
  rw [lg_entry_eq]
  generalize (lg_sl ([.ref (am 0), .int x, .int y]) ++ List.replicate (3 - (lg_sl ([.ref (am 0), .int x, .int y])).length) Slot.unset).toArray = ls at hl ⊢
  have hl : lv_has ls 3 [(0, .ref (am 0)), (1, .int x), (2, .int y)] := hl
  refine lv_aload_n hx hb dX5_wayOf_0 rfl (lv_at hl 0 rfl) ?_
  refine lv_iload_n hx hb dX5_wayOf_1 rfl (lv_at hl 1 rfl) ?_
  refine lv_i2l (v := x.toInt64) hx hb dX5_wayOf_2 rfl ?_
  refine f_pV hx hb hml hown hts (m5_isWay l D dA am P T G L kt tr  x.toInt64 ) (cwV 1 hts (lw_V q1660 q1662 qs34 q79 q1663) rfl rfl rfl (by decide +kernel) ⟨Nat.le_of_ble_eq_true rfl, Nat.le_of_ble_eq_true rfl⟩) hG hI.1 f_id MO_0 rfl rfl hl.1 rfl (Nat.le_of_ble_eq_true rfl) dX5_wayOf_3 ⟨Nat.zero_le _, Nat.zero_le _⟩ ?_
  refine lv_if_eq (tgt := 19) hx hb dX5_wayOf_6 (by decide) (fun c_6 => ?_) (fun c_6 => ?_)
  · refine lv_aload_n hx hb dX5_wayOf_19 rfl (lv_at hl 0 rfl) ?_
    refine lv_bipush (v := -2) hx hb dX5_wayOf_20 (by decide) ?_
    refine f_mV0 hx hb hml hown hts (m5_refuse l D dA am P T G L kt tr _  2 (by omega)) (cwV 1 hts (lw_V q1629 q1631 qs32 q79 q1632) rfl rfl rfl (by decide +kernel) ⟨Nat.le_of_ble_eq_true rfl, Nat.le_of_ble_eq_true rfl⟩) hG hI MO_0 rfl rfl hl.1 rfl (Nat.le_of_ble_eq_true rfl) dX5_wayOf_22 ⟨Nat.zero_le _, Nat.zero_le _⟩ (fun _ H locs _ hI => ?_)
    have hE : (-(nI 2), up P 13 2 (P 13 2 + 1)) = d5_wayOf P x y := (by unfold d5_wayOf; rw [if_pos c_6])
    exact f_mreti hx hb hr hlocks hI dX5_wayOf_25 () (congrArg (fun z => some (Value.int z.1)) hE) trivial (congrArg (fun z => MO dA am z.2 T G L kt tr) hE)
  · obtain ⟨jx, h_jx, rfl⟩ := isWay_natI c_6 hwt hW
    refine lv_iload_n hx hb dX5_wayOf_9 rfl (lv_at hl 2 rfl) ?_
    refine lv_i2l (v := y.toInt64) hx hb dX5_wayOf_10 rfl ?_
    refine lv_lconst (v := 0) hx hb dX5_wayOf_11 (by decide) ?_
    refine lv_lconst (v := 1) hx hb dX5_wayOf_12 (by decide) ?_
    refine f_pS hx hb hml hown hts (m5_in l D dA (MO dA am P T G L kt tr)  y.toInt64 0 1 ) (va_cwS 3 hts (lw_S q1624 q1625 q79 q1626) rfl rfl rfl (by decide +kernel) ⟨Nat.le_of_ble_eq_true rfl, Nat.le_of_ble_eq_true rfl⟩) hG hI.1 f_id rfl hl.1 rfl (Nat.le_of_ble_eq_true rfl) dX5_wayOf_13 ⟨Nat.zero_le _, Nat.zero_le _⟩ ?_
    refine lv_if_ne (tgt := 26) hx hb dX5_wayOf_16 (by decide) (fun c_16 => ?_) (fun c_16 => ?_)
    · obtain ⟨jy, h_jy, rfl⟩ := in_nat c_16 (n := 1) (by decide) (by decide)
      refine lv_iload_n hx hb dX5_wayOf_26 rfl (lv_at hl 2 rfl) ?_
      refine lv_if_ne (tgt := 39) hx hb dX5_wayOf_27 (by decide) (fun c_27 => ?_) (fun c_27 => ?_)
      · have e_27 := (not_congr (nat_eq (a := jy) (b := 0) rfl rfl (by omega) (by omega))).mp c_27
        refine lv_aload_n hx hb dX5_wayOf_39 rfl (lv_at hl 0 rfl) ?_
        refine f_get hx hb hts in_X5 hown hK hI.1 0 MO_0 rfl 16 (by decide) (hts _ q1526) (fun x h => h) rfl dX5_wayOf_40 ?_
        refine lv_iload_n hx hb dX5_wayOf_43 rfl (lv_at hl 1 rfl) ?_
        refine f_iald hx hb hK hI.1 14 0 MO_14 rfl jx rfl (by omega) (by decide) dX5_wayOf_44 ?_
        have hE : (P 5 jx, P) = d5_wayOf P (nI jx) (nI jy) := (by unfold d5_wayOf; (try simp only [cN_nI (show jx < 65536 by omega), cN_nI (show jy < 65536 by omega)]); rw [if_neg c_6, if_neg c_16, if_neg c_27])
        exact f_mreti hx hb hr hlocks hI dX5_wayOf_45 () (congrArg (fun z => some (Value.int z.1)) hE) trivial (congrArg (fun z => MO dA am z.2 T G L kt tr) hE)
      · have e_27 := (nat_eq (a := jy) (b := 0) rfl rfl (by omega) (by omega)).mp c_27
        refine lv_aload_n hx hb dX5_wayOf_30 rfl (lv_at hl 0 rfl) ?_
        refine f_get hx hb hts in_X5 hown hK hI.1 0 MO_0 rfl 15 (by decide) (hts _ q1525) (fun x h => h) rfl dX5_wayOf_31 ?_
        refine lv_iload_n hx hb dX5_wayOf_34 rfl (lv_at hl 1 rfl) ?_
        refine f_iald hx hb hK hI.1 13 0 MO_13 rfl jx rfl (by omega) (by decide) dX5_wayOf_35 ?_
        refine lv_goto (tgt := 45) hx hb dX5_wayOf_36 (by decide) ?_
        have hE : (P 4 jx, P) = d5_wayOf P (nI jx) (nI jy) := (by unfold d5_wayOf; (try simp only [cN_nI (show jx < 65536 by omega), cN_nI (show jy < 65536 by omega)]); rw [if_neg c_6, if_neg c_16, if_pos c_27])
        exact f_mreti hx hb hr hlocks hI dX5_wayOf_45 () (congrArg (fun z => some (Value.int z.1)) hE) trivial (congrArg (fun z => MO dA am z.2 T G L kt tr) hE)
    · refine lv_aload_n hx hb dX5_wayOf_19 rfl (lv_at hl 0 rfl) ?_
      refine lv_bipush (v := -2) hx hb dX5_wayOf_20 (by decide) ?_
      refine f_mV0 hx hb hml hown hts (m5_refuse l D dA am P T G L kt tr _  2 (by omega)) (cwV 1 hts (lw_V q1629 q1631 qs32 q79 q1632) rfl rfl rfl (by decide +kernel) ⟨Nat.le_of_ble_eq_true rfl, Nat.le_of_ble_eq_true rfl⟩) hG hI MO_0 rfl rfl hl.1 rfl (Nat.le_of_ble_eq_true rfl) dX5_wayOf_22 ⟨Nat.zero_le _, Nat.zero_le _⟩ (fun _ H locs _ hI => ?_)
      have hE : (-(nI 2), up P 13 2 (P 13 2 + 1)) = d5_wayOf P (nI jx) y := (by unfold d5_wayOf; (try simp only [cN_nI (show jx < 65536 by omega)]); rw [if_neg c_6, if_pos c_16])
      exact f_mreti hx hb hr hlocks hI dX5_wayOf_25 () (congrArg (fun z => some (Value.int z.1)) hE) trivial (congrArg (fun z => MO dA am z.2 T G L kt tr) hE)
def d5_asked (P : Nat → Nat → Int32) (x : Int32) : Int32 × (Nat → Nat → Int32) := if (d5_in x.toInt64 0 9) = 0 then (-(nI 2), up P 13 2 (P 13 2 + 1)) else (P 6 (cN x), P)
set_option maxHeartbeats 4000000 in
set_option maxRecDepth 100000 in
theorem m5_asked (l : Launch) (D : va_G) (dA : Nat → ClassId) (am : Nat → Nat) (P T : Nat → Nat → Int32) (G : Nat → Int32) (L : Nat → Nat → Int64) (kt tr : Option Nat) (sz : Nat)  (x : Int32)  : Met l yX5_asked (ws_ yX5_asked cX5_asked 2 (some .int)) ({ frames := 1, cells := 0, slots := 0, locals := 25 } : Room) (fPm D dA (MO dA am P T G L kt tr) sz [.ref (am 0), .int x]) (fQm (S := Unit) D (MO dA am P T G L kt tr) sz (fun _ => some (.int ((d5_asked P x).1))) (fun _ => True) (fun _ => MO dA am ((d5_asked P x).2) T G L kt tr)) 0 0 (fA (MO dA am P T G L kt tr) sz) := by
  refine Met.ofW (cc := cX5_asked) (maxL := 2) (ret := (some .int)) (by decide) rfl ?_
  intro p e s m args below meth c s₁ B hml hv
  obtain ⟨rfl, hsz, hP0, hG, hD0⟩ := hv
  have hK := hG.1
  have hx := B.exec
  have hb := B.bytes
  have hr := B.returns
  have hts := atoms_spec (ws := (ws_ yX5_asked cX5_asked 2 (some .int))) B.pre
  have hts : ∀ w ∈ lw_all, w.before _ s = true := fun w h => hts w (List.mem_cons_of_mem _ h)
  have hown : s.vm.findClass RX5 = some m.cls := findClass_of_methodNamed B.named
  have hlocks := B.notSynchronized
  subst hsz
  have hI := FI.start hP0 hD0
  have hl := lv_entry ([.ref (am 0), .int x]) (n := 2) (Nat.le_of_ble_eq_true rfl)
  rw [lg_entry_eq]
  generalize (lg_sl ([.ref (am 0), .int x]) ++ List.replicate (2 - (lg_sl ([.ref (am 0), .int x])).length) Slot.unset).toArray = ls at hl ⊢
  have hl : lv_has ls 2 [(0, .ref (am 0)), (1, .int x)] := hl
  refine lv_iload_n hx hb dX5_asked_0 rfl (lv_at hl 1 rfl) ?_
  refine lv_i2l (v := x.toInt64) hx hb dX5_asked_1 rfl ?_
  refine lv_lconst (v := 0) hx hb dX5_asked_2 (by decide) ?_
  refine lv_ldc2 (v := 9) hx hb hown (hts _ q1702) dX5_asked_3 ?_
  refine f_pS hx hb hml hown hts (m5_in l D dA (MO dA am P T G L kt tr)  x.toInt64 0 9 ) (va_cwS 3 hts (lw_S q1624 q1625 q79 q1626) rfl rfl rfl (by decide +kernel) ⟨Nat.le_of_ble_eq_true rfl, Nat.le_of_ble_eq_true rfl⟩) hG hI.1 f_id rfl hl.1 rfl (Nat.le_of_ble_eq_true rfl) dX5_asked_6 ⟨Nat.zero_le _, Nat.zero_le _⟩ ?_
  refine lv_if_eq (tgt := 21) hx hb dX5_asked_9 (by decide) (fun c_9 => ?_) (fun c_9 => ?_)
  · refine lv_aload_n hx hb dX5_asked_21 rfl (lv_at hl 0 rfl) ?_
    refine lv_bipush (v := -2) hx hb dX5_asked_22 (by decide) ?_
    refine f_mV0 hx hb hml hown hts (m5_refuse l D dA am P T G L kt tr _  2 (by omega)) (cwV 1 hts (lw_V q1629 q1631 qs32 q79 q1632) rfl rfl rfl (by decide +kernel) ⟨Nat.le_of_ble_eq_true rfl, Nat.le_of_ble_eq_true rfl⟩) hG hI MO_0 rfl rfl hl.1 rfl (Nat.le_of_ble_eq_true rfl) dX5_asked_24 ⟨Nat.zero_le _, Nat.zero_le _⟩ (fun _ H locs _ hI => ?_)
    have hE : (-(nI 2), up P 13 2 (P 13 2 + 1)) = d5_asked P x := (by unfold d5_asked; rw [if_pos c_9])
    exact f_mreti hx hb hr hlocks hI dX5_asked_27 () (congrArg (fun z => some (Value.int z.1)) hE) trivial (congrArg (fun z => MO dA am z.2 T G L kt tr) hE)
  · obtain ⟨jx, h_jx, rfl⟩ := in_nat c_9 (n := 9) (by decide) (by decide)
    refine lv_aload_n hx hb dX5_asked_12 rfl (lv_at hl 0 rfl) ?_
    refine f_get hx hb hts in_X5 hown hK hI.1 0 MO_0 rfl 17 (by decide) (hts _ q1527) (fun x h => h) rfl dX5_asked_13 ?_
    refine lv_iload_n hx hb dX5_asked_16 rfl (lv_at hl 1 rfl) ?_
    refine f_iald hx hb hK hI.1 15 0 MO_15 rfl jx rfl (by omega) (by decide) dX5_asked_17 ?_
    refine lv_goto (tgt := 27) hx hb dX5_asked_18 (by decide) ?_
    have hE : (P 6 jx, P) = d5_asked P (nI jx) := (by unfold d5_asked; (try simp only [cN_nI (show jx < 65536 by omega)]); rw [if_neg c_9])
    exact f_mreti hx hb hr hlocks hI dX5_asked_27 () (congrArg (fun z => some (Value.int z.1)) hE) trivial (congrArg (fun z => MO dA am z.2 T G L kt tr) hE)
def d5_move (P : Nat → Nat → Int32) (x : Int32) (y : Int32) (z : Int32) : Int32 × (Nat → Nat → Int32) := if (d5_isWay P x.toInt64) = 0 then (-(nI 2), up P 13 2 (P 13 2 + 1)) else (if (d5_isStep P y) = 0 then (-(nI 2), up P 13 2 (P 13 2 + 1)) else (if (d5_in z.toInt64 0 3) = 0 then (-(nI 2), up P 13 2 (P 13 2 + 1)) else (if (z) = 3 then (if (d5_slips P (cN x) (cN y)) ≤ 100 then (d5_slips P (cN x) (cN y), P) else (100, P)) else (if (z) = 0 then (d5_load P (cN x) (cN y), P) else (if (z) = 1 then (d5_hands P (cN x), P) else (d5_tires P (cN x) (cN y), P))))))
set_option maxHeartbeats 4000000 in
set_option maxRecDepth 100000 in
theorem m5_move (l : Launch) (D : va_G) (dA : Nat → ClassId) (am : Nat → Nat) (P T : Nat → Nat → Int32) (G : Nat → Int32) (L : Nat → Nat → Int64) (kt tr : Option Nat) (sz : Nat) (S : Nat) (Wn : Nat) (x : Int32) (y : Int32) (z : Int32) (hst : P 7 0 = nI S) (hS : S ≤ 9) (hwt : P 7 1 = nI Wn) (hW : Wn ≤ 6) : Met l yX5_move (ws_ yX5_move cX5_move 4 (some .int)) ({ frames := 2, cells := 0, slots := 0, locals := 47 } : Room) (fPm D dA (MO dA am P T G L kt tr) sz [.ref (am 0), .int x, .int y, .int z]) (fQm (S := Unit) D (MO dA am P T G L kt tr) sz (fun _ => some (.int ((d5_move P x y z).1))) (fun _ => True) (fun _ => MO dA am ((d5_move P x y z).2) T G L kt tr)) 0 0 (fA (MO dA am P T G L kt tr) sz) := by
  refine Met.ofW (cc := cX5_move) (maxL := 4) (ret := (some .int)) (by decide) rfl ?_
  intro p e s m args below meth c s₁ B hml hv
  obtain ⟨rfl, hsz, hP0, hG, hD0⟩ := hv
  have hK := hG.1
  have hx := B.exec
  have hb := B.bytes
  have hr := B.returns
  have hts := atoms_spec (ws := (ws_ yX5_move cX5_move 4 (some .int))) B.pre
  have hts : ∀ w ∈ lw_all, w.before _ s = true := fun w h => hts w (List.mem_cons_of_mem _ h)
  have hown : s.vm.findClass RX5 = some m.cls := findClass_of_methodNamed B.named
  have hlocks := B.notSynchronized
  subst hsz
  have hI := FI.start hP0 hD0
  have hl := lv_entry ([.ref (am 0), .int x, .int y, .int z]) (n := 4) (Nat.le_of_ble_eq_true rfl)
  rw [lg_entry_eq]
  generalize (lg_sl ([.ref (am 0), .int x, .int y, .int z]) ++ List.replicate (4 - (lg_sl ([.ref (am 0), .int x, .int y, .int z])).length) Slot.unset).toArray = ls at hl ⊢
  have hl : lv_has ls 4 [(0, .ref (am 0)), (1, .int x), (2, .int y), (3, .int z)] := hl
  refine lv_aload_n hx hb dX5_move_0 rfl (lv_at hl 0 rfl) ?_
  refine lv_iload_n hx hb dX5_move_1 rfl (lv_at hl 1 rfl) ?_
  refine lv_i2l (v := x.toInt64) hx hb dX5_move_2 rfl ?_
  refine f_pV hx hb hml hown hts (m5_isWay l D dA am P T G L kt tr  x.toInt64 ) (cwV 1 hts (lw_V q1660 q1662 qs34 q79 q1663) rfl rfl rfl (by decide +kernel) ⟨Nat.le_of_ble_eq_true rfl, Nat.le_of_ble_eq_true rfl⟩) hG hI.1 f_id MO_0 rfl rfl hl.1 rfl (Nat.le_of_ble_eq_true rfl) dX5_move_3 ⟨Nat.zero_le _, Nat.zero_le _⟩ ?_
  refine lv_if_eq (tgt := 29) hx hb dX5_move_6 (by decide) (fun c_6 => ?_) (fun c_6 => ?_)
  · refine lv_aload_n hx hb dX5_move_29 rfl (lv_at hl 0 rfl) ?_
    refine lv_bipush (v := -2) hx hb dX5_move_30 (by decide) ?_
    refine f_mV0 hx hb hml hown hts (m5_refuse l D dA am P T G L kt tr _  2 (by omega)) (cwV 1 hts (lw_V q1629 q1631 qs32 q79 q1632) rfl rfl rfl (by decide +kernel) ⟨Nat.le_of_ble_eq_true rfl, Nat.le_of_ble_eq_true rfl⟩) hG hI MO_0 rfl rfl hl.1 rfl (Nat.le_of_ble_eq_true rfl) dX5_move_32 ⟨Nat.zero_le _, Nat.zero_le _⟩ (fun _ H locs _ hI => ?_)
    have hE : (-(nI 2), up P 13 2 (P 13 2 + 1)) = d5_move P x y z := (by unfold d5_move; rw [if_pos c_6])
    exact f_mreti hx hb hr hlocks hI dX5_move_35 () (congrArg (fun z => some (Value.int z.1)) hE) trivial (congrArg (fun z => MO dA am z.2 T G L kt tr) hE)
  · obtain ⟨jx, h_jx, rfl⟩ := isWay_natI c_6 hwt hW
    refine lv_aload_n hx hb dX5_move_9 rfl (lv_at hl 0 rfl) ?_
    refine lv_iload_n hx hb dX5_move_10 rfl (lv_at hl 2 rfl) ?_
    refine f_pV hx hb hml hown hts (m5_isStep l D dA am P T G L kt tr  y ) (cwV 1 hts (lw_V q1715 q1717 qs41 q79 q1718) rfl rfl rfl (by decide +kernel) ⟨Nat.le_of_ble_eq_true rfl, Nat.le_of_ble_eq_true rfl⟩) hG hI.1 f_id MO_0 rfl rfl hl.1 rfl (Nat.le_of_ble_eq_true rfl) dX5_move_11 ⟨Nat.zero_le _, Nat.zero_le _⟩ ?_
    refine lv_if_eq (tgt := 29) hx hb dX5_move_14 (by decide) (fun c_14 => ?_) (fun c_14 => ?_)
    · refine lv_aload_n hx hb dX5_move_29 rfl (lv_at hl 0 rfl) ?_
      refine lv_bipush (v := -2) hx hb dX5_move_30 (by decide) ?_
      refine f_mV0 hx hb hml hown hts (m5_refuse l D dA am P T G L kt tr _  2 (by omega)) (cwV 1 hts (lw_V q1629 q1631 qs32 q79 q1632) rfl rfl rfl (by decide +kernel) ⟨Nat.le_of_ble_eq_true rfl, Nat.le_of_ble_eq_true rfl⟩) hG hI MO_0 rfl rfl hl.1 rfl (Nat.le_of_ble_eq_true rfl) dX5_move_32 ⟨Nat.zero_le _, Nat.zero_le _⟩ (fun _ H locs _ hI => ?_)
      have hE : (-(nI 2), up P 13 2 (P 13 2 + 1)) = d5_move P (nI jx) y z := (by unfold d5_move; (try simp only [cN_nI (show jx < 65536 by omega)]); rw [if_neg c_6, if_pos c_14])
      exact f_mreti hx hb hr hlocks hI dX5_move_35 () (congrArg (fun z => some (Value.int z.1)) hE) trivial (congrArg (fun z => MO dA am z.2 T G L kt tr) hE)
    · obtain ⟨jy, h_jy, rfl⟩ := isStep_nat c_14 hst hS
      refine lv_iload_n hx hb dX5_move_17 rfl (lv_at hl 3 rfl) ?_
      refine lv_i2l (v := z.toInt64) hx hb dX5_move_18 rfl ?_
      refine lv_lconst (v := 0) hx hb dX5_move_19 (by decide) ?_
      refine lv_ldc2 (v := 3) hx hb hown (hts _ q1829) dX5_move_20 ?_
      refine f_pS hx hb hml hown hts (m5_in l D dA (MO dA am P T G L kt tr)  z.toInt64 0 3 ) (va_cwS 3 hts (lw_S q1624 q1625 q79 q1626) rfl rfl rfl (by decide +kernel) ⟨Nat.le_of_ble_eq_true rfl, Nat.le_of_ble_eq_true rfl⟩) hG hI.1 f_id rfl hl.1 rfl (Nat.le_of_ble_eq_true rfl) dX5_move_23 ⟨Nat.zero_le _, Nat.zero_le _⟩ ?_
      refine lv_if_ne (tgt := 36) hx hb dX5_move_26 (by decide) (fun c_26 => ?_) (fun c_26 => ?_)
      · obtain ⟨jz, h_jz, rfl⟩ := in_nat c_26 (n := 3) (by decide) (by decide)
        refine lv_iload_n hx hb dX5_move_36 rfl (lv_at hl 3 rfl) ?_
        refine lv_iconst (v := 3) hx hb dX5_move_37 (by decide) ?_
        refine lv_icmp_ne (tgt := 64) hx hb dX5_move_38 (by decide) (fun c_38 => ?_) (fun c_38 => ?_)
        · have e_38 := (not_congr (nat_eq (a := jz) (b := 3) rfl rfl (by omega) (by omega))).mp c_38
          refine lv_iload_n hx hb dX5_move_64 rfl (lv_at hl 3 rfl) ?_
          refine lv_if_ne (tgt := 77) hx hb dX5_move_65 (by decide) (fun c_65 => ?_) (fun c_65 => ?_)
          · have e_65 := (not_congr (nat_eq (a := jz) (b := 0) rfl rfl (by omega) (by omega))).mp c_65
            refine lv_iload_n hx hb dX5_move_77 rfl (lv_at hl 3 rfl) ?_
            refine lv_iconst (v := 1) hx hb dX5_move_78 (by decide) ?_
            refine lv_icmp_ne (tgt := 90) hx hb dX5_move_79 (by decide) (fun c_79 => ?_) (fun c_79 => ?_)
            · have e_79 := (not_congr (nat_eq (a := jz) (b := 1) rfl rfl (by omega) (by omega))).mp c_79
              refine lv_aload_n hx hb dX5_move_90 rfl (lv_at hl 0 rfl) ?_
              refine lv_iload_n hx hb dX5_move_91 rfl (lv_at hl 1 rfl) ?_
              refine lv_iload_n hx hb dX5_move_92 rfl (lv_at hl 2 rfl) ?_
              refine f_pV hx hb hml hown hts (m5_tires l D dA am P T G L kt tr  jx jy (by omega) (by omega)) (cwV 2 hts (lw_V q1680 q1682 qs37 q79 q1683) rfl rfl rfl (by decide +kernel) ⟨Nat.le_of_ble_eq_true rfl, Nat.le_of_ble_eq_true rfl⟩) hG hI.1 f_id MO_0 rfl rfl hl.1 rfl (Nat.le_of_ble_eq_true rfl) dX5_move_93 ⟨Nat.zero_le _, Nat.zero_le _⟩ ?_
              have hE : (d5_tires P jx jy, P) = d5_move P (nI jx) (nI jy) (nI jz) := (by unfold d5_move; (try simp only [cN_nI (show jx < 65536 by omega), cN_nI (show jy < 65536 by omega), cN_nI (show jz < 65536 by omega)]); rw [if_neg c_6, if_neg c_14, if_neg c_26, if_neg c_38, if_neg c_65, if_neg c_79])
              exact f_mreti hx hb hr hlocks hI dX5_move_96 () (congrArg (fun z => some (Value.int z.1)) hE) trivial (congrArg (fun z => MO dA am z.2 T G L kt tr) hE)
            · have e_79 := (nat_eq (a := jz) (b := 1) rfl rfl (by omega) (by omega)).mp c_79
              refine lv_aload_n hx hb dX5_move_82 rfl (lv_at hl 0 rfl) ?_
              refine lv_iload_n hx hb dX5_move_83 rfl (lv_at hl 1 rfl) ?_
              refine f_pV hx hb hml hown hts (m5_hands l D dA am P T G L kt tr  jx (by omega)) (cwV 1 hts (lw_V q1842 q1844 qs54 q79 q1845) rfl rfl rfl (by decide +kernel) ⟨Nat.le_of_ble_eq_true rfl, Nat.le_of_ble_eq_true rfl⟩) hG hI.1 f_id MO_0 rfl rfl hl.1 rfl (Nat.le_of_ble_eq_true rfl) dX5_move_84 ⟨Nat.zero_le _, Nat.zero_le _⟩ ?_
              refine lv_goto (tgt := 96) hx hb dX5_move_87 (by decide) ?_
              have hE : (d5_hands P jx, P) = d5_move P (nI jx) (nI jy) (nI jz) := (by unfold d5_move; (try simp only [cN_nI (show jx < 65536 by omega), cN_nI (show jy < 65536 by omega), cN_nI (show jz < 65536 by omega)]); rw [if_neg c_6, if_neg c_14, if_neg c_26, if_neg c_38, if_neg c_65, if_pos c_79])
              exact f_mreti hx hb hr hlocks hI dX5_move_96 () (congrArg (fun z => some (Value.int z.1)) hE) trivial (congrArg (fun z => MO dA am z.2 T G L kt tr) hE)
          · have e_65 := (nat_eq (a := jz) (b := 0) rfl rfl (by omega) (by omega)).mp c_65
            refine lv_aload_n hx hb dX5_move_68 rfl (lv_at hl 0 rfl) ?_
            refine lv_iload_n hx hb dX5_move_69 rfl (lv_at hl 1 rfl) ?_
            refine lv_iload_n hx hb dX5_move_70 rfl (lv_at hl 2 rfl) ?_
            refine f_pV hx hb hml hown hts (m5_load l D dA am P T G L kt tr  jx jy (by omega) (by omega)) (cwV 2 hts (lw_V q1684 q1686 qs38 q79 q1687) rfl rfl rfl (by decide +kernel) ⟨Nat.le_of_ble_eq_true rfl, Nat.le_of_ble_eq_true rfl⟩) hG hI.1 f_id MO_0 rfl rfl hl.1 rfl (Nat.le_of_ble_eq_true rfl) dX5_move_71 ⟨Nat.zero_le _, Nat.zero_le _⟩ ?_
            refine lv_goto (tgt := 96) hx hb dX5_move_74 (by decide) ?_
            have hE : (d5_load P jx jy, P) = d5_move P (nI jx) (nI jy) (nI jz) := (by unfold d5_move; (try simp only [cN_nI (show jx < 65536 by omega), cN_nI (show jy < 65536 by omega), cN_nI (show jz < 65536 by omega)]); rw [if_neg c_6, if_neg c_14, if_neg c_26, if_neg c_38, if_pos c_65])
            exact f_mreti hx hb hr hlocks hI dX5_move_96 () (congrArg (fun z => some (Value.int z.1)) hE) trivial (congrArg (fun z => MO dA am z.2 T G L kt tr) hE)
        · have e_38 := (nat_eq (a := jz) (b := 3) rfl rfl (by omega) (by omega)).mp c_38
          refine lv_aload_n hx hb dX5_move_41 rfl (lv_at hl 0 rfl) ?_
          refine lv_iload_n hx hb dX5_move_42 rfl (lv_at hl 1 rfl) ?_
          refine lv_iload_n hx hb dX5_move_43 rfl (lv_at hl 2 rfl) ?_
          refine f_pV hx hb hml hown hts (m5_slips l D dA am P T G L kt tr  jx jy (by omega) (by omega)) (cwV 2 hts (lw_V q1672 q1674 qs35 q79 q1675) rfl rfl rfl (by decide +kernel) ⟨Nat.le_of_ble_eq_true rfl, Nat.le_of_ble_eq_true rfl⟩) hG hI.1 f_id MO_0 rfl rfl hl.1 rfl (Nat.le_of_ble_eq_true rfl) dX5_move_44 ⟨Nat.zero_le _, Nat.zero_le _⟩ ?_
          refine lv_bipush (v := 100) hx hb dX5_move_47 (by decide) ?_
          refine lv_icmp_le (tgt := 57) hx hb dX5_move_49 (by decide) (fun c_49 => ?_) (fun c_49 => ?_)
          · refine lv_aload_n hx hb dX5_move_57 rfl (lv_at hl 0 rfl) ?_
            refine lv_iload_n hx hb dX5_move_58 rfl (lv_at hl 1 rfl) ?_
            refine lv_iload_n hx hb dX5_move_59 rfl (lv_at hl 2 rfl) ?_
            refine f_pV hx hb hml hown hts (m5_slips l D dA am P T G L kt tr  jx jy (by omega) (by omega)) (cwV 2 hts (lw_V q1672 q1674 qs35 q79 q1675) rfl rfl rfl (by decide +kernel) ⟨Nat.le_of_ble_eq_true rfl, Nat.le_of_ble_eq_true rfl⟩) hG hI.1 f_id MO_0 rfl rfl hl.1 rfl (Nat.le_of_ble_eq_true rfl) dX5_move_60 ⟨Nat.zero_le _, Nat.zero_le _⟩ ?_
            have hE : (d5_slips P jx jy, P) = d5_move P (nI jx) (nI jy) (nI jz) := (by unfold d5_move; (try simp only [cN_nI (show jx < 65536 by omega), cN_nI (show jy < 65536 by omega), cN_nI (show jz < 65536 by omega)]); rw [if_neg c_6, if_neg c_14, if_neg c_26, if_pos c_38, if_pos c_49])
            exact f_mreti hx hb hr hlocks hI dX5_move_63 () (congrArg (fun z => some (Value.int z.1)) hE) trivial (congrArg (fun z => MO dA am z.2 T G L kt tr) hE)
          · refine lv_bipush (v := 100) hx hb dX5_move_52 (by decide) ?_
            refine lv_goto (tgt := 63) hx hb dX5_move_54 (by decide) ?_
            have hE : (100, P) = d5_move P (nI jx) (nI jy) (nI jz) := (by unfold d5_move; (try simp only [cN_nI (show jx < 65536 by omega), cN_nI (show jy < 65536 by omega), cN_nI (show jz < 65536 by omega)]); rw [if_neg c_6, if_neg c_14, if_neg c_26, if_pos c_38, if_neg c_49])
            exact f_mreti hx hb hr hlocks hI dX5_move_63 () (congrArg (fun z => some (Value.int z.1)) hE) trivial (congrArg (fun z => MO dA am z.2 T G L kt tr) hE)
      · refine lv_aload_n hx hb dX5_move_29 rfl (lv_at hl 0 rfl) ?_
        refine lv_bipush (v := -2) hx hb dX5_move_30 (by decide) ?_
        refine f_mV0 hx hb hml hown hts (m5_refuse l D dA am P T G L kt tr _  2 (by omega)) (cwV 1 hts (lw_V q1629 q1631 qs32 q79 q1632) rfl rfl rfl (by decide +kernel) ⟨Nat.le_of_ble_eq_true rfl, Nat.le_of_ble_eq_true rfl⟩) hG hI MO_0 rfl rfl hl.1 rfl (Nat.le_of_ble_eq_true rfl) dX5_move_32 ⟨Nat.zero_le _, Nat.zero_le _⟩ (fun _ H locs _ hI => ?_)
        have hE : (-(nI 2), up P 13 2 (P 13 2 + 1)) = d5_move P (nI jx) (nI jy) z := (by unfold d5_move; (try simp only [cN_nI (show jx < 65536 by omega), cN_nI (show jy < 65536 by omega)]); rw [if_neg c_6, if_neg c_14, if_pos c_26])
        exact f_mreti hx hb hr hlocks hI dX5_move_35 () (congrArg (fun z => some (Value.int z.1)) hE) trivial (congrArg (fun z => MO dA am z.2 T G L kt tr) hE)
def d5_noClimb (P : Nat → Nat → Int32) (x : Int32) : Int32 × (Nat → Nat → Int32) := if ((d5_noRow P x).1) = 0 then (if (P 7 0) ≤ (P 10 (cN x)) then (0, P) else (-(nI 2), up P 13 2 (P 13 2 + 1))) else ((d5_noRow P x).1, (d5_noRow P x).2)
set_option maxHeartbeats 4000000 in
set_option maxRecDepth 100000 in
theorem m5_noClimb (l : Launch) (D : va_G) (dA : Nat → ClassId) (am : Nat → Nat) (P T : Nat → Nat → Int32) (G : Nat → Int32) (L : Nat → Nat → Int64) (kt tr : Option Nat) (sz : Nat)  (x : Int32)  : Met l yX5_noClimb (ws_ yX5_noClimb cX5_noClimb 3 (some .int)) ({ frames := 2, cells := 0, slots := 0, locals := 46 } : Room) (fPm D dA (MO dA am P T G L kt tr) sz [.ref (am 0), .int x]) (fQm (S := Unit) D (MO dA am P T G L kt tr) sz (fun _ => some (.int ((d5_noClimb P x).1))) (fun _ => True) (fun _ => MO dA am ((d5_noClimb P x).2) T G L kt tr)) 0 0 (fA (MO dA am P T G L kt tr) sz) := by
  refine Met.ofW (cc := cX5_noClimb) (maxL := 3) (ret := (some .int)) (by decide) rfl ?_
  intro p e s m args below meth c s₁ B hml hv
  obtain ⟨rfl, hsz, hP0, hG, hD0⟩ := hv
  have hK := hG.1
  have hx := B.exec
  have hb := B.bytes
  have hr := B.returns
  have hts := atoms_spec (ws := (ws_ yX5_noClimb cX5_noClimb 3 (some .int))) B.pre
  have hts : ∀ w ∈ lw_all, w.before _ s = true := fun w h => hts w (List.mem_cons_of_mem _ h)
  have hown : s.vm.findClass RX5 = some m.cls := findClass_of_methodNamed B.named
  have hlocks := B.notSynchronized
  subst hsz
  have hI := FI.start hP0 hD0
  have hl := lv_entry ([.ref (am 0), .int x]) (n := 3) (Nat.le_of_ble_eq_true rfl)
  rw [lg_entry_eq]
  generalize (lg_sl ([.ref (am 0), .int x]) ++ List.replicate (3 - (lg_sl ([.ref (am 0), .int x])).length) Slot.unset).toArray = ls at hl ⊢
  have hl : lv_has ls 3 [(0, .ref (am 0)), (1, .int x)] := hl
  refine lv_aload_n hx hb dX5_noClimb_0 rfl (lv_at hl 0 rfl) ?_
  refine lv_iload_n hx hb dX5_noClimb_1 rfl (lv_at hl 1 rfl) ?_
  refine f_mV0 hx hb hml hown hts (m5_noRow l D dA am P T G L kt tr _  x ) (cwV 1 hts (lw_V q1637 q1639 qs33 q79 q1640) rfl rfl rfl (by decide +kernel) ⟨Nat.le_of_ble_eq_true rfl, Nat.le_of_ble_eq_true rfl⟩) hG hI MO_0 rfl rfl hl.1 rfl (Nat.le_of_ble_eq_true rfl) dX5_noClimb_2 ⟨Nat.zero_le _, Nat.zero_le _⟩ (fun _ H locs _ hI => ?_)
  refine lv_istore_n (lv' := [(2, .int ((d5_noRow P x).1)), (0, .ref (am 0)), (1, .int x)]) hx hb dX5_noClimb_5 rfl hl (by decide) rfl (fun ls hl => ?_)
  refine lv_iload_n hx hb dX5_noClimb_6 rfl (lv_at hl 0 rfl) ?_
  refine lv_if_eq (tgt := 12) hx hb dX5_noClimb_7 (by decide) (fun (c_7 : ((d5_noRow P x).1) = 0) => ?_) (fun (c_7 : ¬ (((d5_noRow P x).1) = 0)) => ?_)
  · obtain ⟨hno, jx, h_jx, rfl, hno2⟩ := noRow_ok c_7
    simp only [hno] at hI
    refine lv_aload_n hx hb dX5_noClimb_12 rfl (lv_at hl 1 rfl) ?_
    refine f_get hx hb hts in_X5 hown hK hI.1 0 MO_0 rfl 2 (by decide) (hts _ q1512) (fun x h => h) rfl dX5_noClimb_13 ?_
    refine lv_iload_n hx hb dX5_noClimb_16 rfl (lv_at hl 2 rfl) ?_
    refine f_iald hx hb hK hI.1 3 0 MO_3 rfl jx rfl (by omega) (by decide) dX5_noClimb_17 ?_
    refine lv_aload_n hx hb dX5_noClimb_18 rfl (lv_at hl 1 rfl) ?_
    refine f_get hx hb hts in_X5 hown hK hI.1 0 MO_0 rfl 9 (by decide) (hts _ q1519) (fun x h => h) rfl dX5_noClimb_19 ?_
    refine lv_icmp_ge (tgt := 34) hx hb dX5_noClimb_22 (by decide) (fun c_22 => ?_) (fun c_22 => ?_)
    · refine lv_iconst (v := 0) hx hb dX5_noClimb_34 (by decide) ?_
      have hE : (0, P) = d5_noClimb P (nI jx) := (by unfold d5_noClimb; (try simp only [cN_nI (show jx < 65536 by omega)]); rw [if_pos c_7, if_pos c_22])
      exact f_mreti hx hb hr hlocks hI dX5_noClimb_35 () (congrArg (fun z => some (Value.int z.1)) hE) trivial (congrArg (fun z => MO dA am z.2 T G L kt tr) hE)
    · refine lv_aload_n hx hb dX5_noClimb_25 rfl (lv_at hl 1 rfl) ?_
      refine lv_bipush (v := -2) hx hb dX5_noClimb_26 (by decide) ?_
      refine f_mV0 hx hb hml hown hts (m5_refuse l D dA am P T G L kt tr _  2 (by omega)) (cwV 1 hts (lw_V q1629 q1631 qs32 q79 q1632) rfl rfl rfl (by decide +kernel) ⟨Nat.le_of_ble_eq_true rfl, Nat.le_of_ble_eq_true rfl⟩) hG hI MO_0 rfl rfl hl.1 rfl (Nat.le_of_ble_eq_true rfl) dX5_noClimb_28 ⟨Nat.zero_le _, Nat.zero_le _⟩ (fun _ H locs _ hI => ?_)
      refine lv_goto (tgt := 35) hx hb dX5_noClimb_31 (by decide) ?_
      have hE : (-(nI 2), up P 13 2 (P 13 2 + 1)) = d5_noClimb P (nI jx) := (by unfold d5_noClimb; (try simp only [cN_nI (show jx < 65536 by omega)]); rw [if_pos c_7, if_neg c_22])
      exact f_mreti hx hb hr hlocks hI dX5_noClimb_35 () (congrArg (fun z => some (Value.int z.1)) hE) trivial (congrArg (fun z => MO dA am z.2 T G L kt tr) hE)
  · refine lv_iload_n hx hb dX5_noClimb_10 rfl (lv_at hl 0 rfl) ?_
    have hE : ((d5_noRow P x).1, (d5_noRow P x).2) = d5_noClimb P x := (by unfold d5_noClimb; rw [if_neg c_7])
    exact f_mreti hx hb hr hlocks hI dX5_noClimb_11 () (congrArg (fun z => some (Value.int z.1)) hE) trivial (congrArg (fun z => MO dA am z.2 T G L kt tr) hE)
theorem noClimb_ok {P : Nat → Nat → Int32} {x : Int32} (h : (d5_noClimb P x).1 = 0) : d5_noClimb P x = (0, P) ∧ ∃ i : Nat, i < 8 ∧ x = nI i ∧ P 8 i ≠ 2 ∧ P 8 i ≠ 0 ∧ ¬ P 10 i < P 7 0 := by
  unfold d5_noClimb at h ⊢
  by_cases c1 : (d5_noRow P x).1 = 0
  · rw [if_pos c1] at h ⊢
    obtain ⟨e, i, hi, rfl, h2, h0⟩ := noRow_ok c1
    rw [cN_nI (by omega)] at h ⊢
    by_cases c2 : P 7 0 ≤ P 10 i
    · rw [if_pos c2]
      exact ⟨rfl, i, hi, rfl, h2, h0, Int32.not_lt.mpr c2⟩
    · rw [if_neg c2] at h
      exact absurd (show -(nI 2) = 0 from h) (by decide)
  · rw [if_neg c1] at h
    exact absurd h c1
def g5_may_32 (P : Nat → Nat → Int32) (jx : Nat) (jy : Nat)  : Nat → Nat → Int32 → Int32 × (Nat → Nat → Int32)
  | 0, _, _ => (0, fun _ _ => 0)
  | n + 1, k4, x3 => if (P 7 1) ≤ (nI k4) then (x3, P) else (if (d5_canBe P k4 jx (nI jy)) = 0 then g5_may_32 P jx jy n (k4 + 1) (x3 ||| 0) else g5_may_32 P jx jy n (k4 + 1) (x3 ||| (1 <<< ((nI k4) &&& 31))))
def d5_may (P : Nat → Nat → Int32) (x : Int32) (y : Int32) (Wn : Nat) : Int32 × (Nat → Nat → Int32) := if (d5_isStep P x) = 0 then (-(nI 2), up P 13 2 (P 13 2 + 1)) else (if (d5_in y.toInt64 0 200) = 0 then (-(nI 2), up P 13 2 (P 13 2 + 1)) else g5_may_32 P (cN x) (cN y) (Wn + 1) 0 0)
set_option maxHeartbeats 4000000 in
set_option maxRecDepth 100000 in
theorem m5_may (l : Launch) (D : va_G) (dA : Nat → ClassId) (am : Nat → Nat) (P T : Nat → Nat → Int32) (G : Nat → Int32) (L : Nat → Nat → Int64) (kt tr : Option Nat) (sz : Nat) (S : Nat) (Wn : Nat) (x : Int32) (y : Int32) (hst : P 7 0 = nI S) (hS : S ≤ 9) (hwt : P 7 1 = nI Wn) (hW : Wn ≤ 6) : Met l yX5_may (ws_ yX5_may cX5_may 5 (some .int)) ({ frames := 2, cells := 0, slots := 0, locals := 46 } : Room) (fPm D dA (MO dA am P T G L kt tr) sz [.ref (am 0), .int x, .int y]) (fQm (S := Unit) D (MO dA am P T G L kt tr) sz (fun _ => some (.int ((d5_may P x y Wn).1))) (fun _ => True) (fun _ => MO dA am ((d5_may P x y Wn).2) T G L kt tr)) 0 0 (fA (MO dA am P T G L kt tr) sz) := by
  refine Met.ofW (cc := cX5_may) (maxL := 5) (ret := (some .int)) (by decide) rfl ?_
  intro p e s m args below meth c s₁ B hml hv
  obtain ⟨rfl, hsz, hP0, hG, hD0⟩ := hv
  have hK := hG.1
  have hx := B.exec
  have hb := B.bytes
  have hr := B.returns
  have hts := atoms_spec (ws := (ws_ yX5_may cX5_may 5 (some .int))) B.pre
  have hts : ∀ w ∈ lw_all, w.before _ s = true := fun w h => hts w (List.mem_cons_of_mem _ h)
  have hown : s.vm.findClass RX5 = some m.cls := findClass_of_methodNamed B.named
  have hlocks := B.notSynchronized
  subst hsz
  have hI := FI.start hP0 hD0
  have hl := lv_entry ([.ref (am 0), .int x, .int y]) (n := 5) (Nat.le_of_ble_eq_true rfl)
  rw [lg_entry_eq]
  generalize (lg_sl ([.ref (am 0), .int x, .int y]) ++ List.replicate (5 - (lg_sl ([.ref (am 0), .int x, .int y])).length) Slot.unset).toArray = ls at hl ⊢
  have hl : lv_has ls 5 [(0, .ref (am 0)), (1, .int x), (2, .int y)] := hl
  refine lv_aload_n hx hb dX5_may_0 rfl (lv_at hl 0 rfl) ?_
  refine lv_iload_n hx hb dX5_may_1 rfl (lv_at hl 1 rfl) ?_
  refine f_pV hx hb hml hown hts (m5_isStep l D dA am P T G L kt tr  x ) (cwV 1 hts (lw_V q1715 q1717 qs41 q79 q1718) rfl rfl rfl (by decide +kernel) ⟨Nat.le_of_ble_eq_true rfl, Nat.le_of_ble_eq_true rfl⟩) hG hI.1 f_id MO_0 rfl rfl hl.1 rfl (Nat.le_of_ble_eq_true rfl) dX5_may_2 ⟨Nat.zero_le _, Nat.zero_le _⟩ ?_
  refine lv_if_eq (tgt := 20) hx hb dX5_may_5 (by decide) (fun c_5 => ?_) (fun c_5 => ?_)
  · refine lv_aload_n hx hb dX5_may_20 rfl (lv_at hl 0 rfl) ?_
    refine lv_bipush (v := -2) hx hb dX5_may_21 (by decide) ?_
    refine f_mV0 hx hb hml hown hts (m5_refuse l D dA am P T G L kt tr _  2 (by omega)) (cwV 1 hts (lw_V q1629 q1631 qs32 q79 q1632) rfl rfl rfl (by decide +kernel) ⟨Nat.le_of_ble_eq_true rfl, Nat.le_of_ble_eq_true rfl⟩) hG hI MO_0 rfl rfl hl.1 rfl (Nat.le_of_ble_eq_true rfl) dX5_may_23 ⟨Nat.zero_le _, Nat.zero_le _⟩ (fun _ H locs _ hI => ?_)
    have hE : (-(nI 2), up P 13 2 (P 13 2 + 1)) = d5_may P x y Wn := (by unfold d5_may; rw [if_pos c_5])
    exact f_mreti hx hb hr hlocks hI dX5_may_26 () (congrArg (fun z => some (Value.int z.1)) hE) trivial (congrArg (fun z => MO dA am z.2 T G L kt tr) hE)
  · obtain ⟨jx, h_jx, rfl⟩ := isStep_nat c_5 hst hS
    refine lv_iload_n hx hb dX5_may_8 rfl (lv_at hl 2 rfl) ?_
    refine lv_i2l (v := y.toInt64) hx hb dX5_may_9 rfl ?_
    refine lv_lconst (v := 0) hx hb dX5_may_10 (by decide) ?_
    refine lv_ldc2 (v := 200) hx hb hown (hts _ q1850) dX5_may_11 ?_
    refine f_pS hx hb hml hown hts (m5_in l D dA (MO dA am P T G L kt tr)  y.toInt64 0 200 ) (va_cwS 3 hts (lw_S q1624 q1625 q79 q1626) rfl rfl rfl (by decide +kernel) ⟨Nat.le_of_ble_eq_true rfl, Nat.le_of_ble_eq_true rfl⟩) hG hI.1 f_id rfl hl.1 rfl (Nat.le_of_ble_eq_true rfl) dX5_may_14 ⟨Nat.zero_le _, Nat.zero_le _⟩ ?_
    refine lv_if_ne (tgt := 27) hx hb dX5_may_17 (by decide) (fun c_17 => ?_) (fun c_17 => ?_)
    · obtain ⟨jy, h_jy, rfl⟩ := in_nat c_17 (n := 200) (by decide) (by decide)
      refine lv_iconst (v := 0) hx hb dX5_may_27 (by decide) ?_
      refine lv_istore_n (lv' := [(3, .int 0), (0, .ref (am 0)), (1, .int (nI jx)), (2, .int (nI jy))]) hx hb dX5_may_28 rfl hl (by decide) rfl (fun ls hl => ?_)
      refine lv_iconst (v := 0) hx hb dX5_may_29 (by decide) ?_
      refine lv_istore (lv' := [(4, .int 0), (3, .int 0), (0, .ref (am 0)), (1, .int (nI jx)), (2, .int (nI jy))]) hx hb dX5_may_30 hl (by decide) rfl (fun ls hl => ?_)
      have lp_32 : ∀ (n32 : Nat) (k4 : Nat) (x3 : Int32), (k4 ≤ Wn) → Wn - k4 < n32 → g5_may_32 P jx jy n32 k4 x3 = d5_may P (nI jx) (nI jy) Wn → ∀ (H : Heap) (locs : List Loc), FI D gcl (fA (MO dA am P T G L kt tr) s.heap.size) s.heap (MO dA am P T G L kt tr) H locs → ∀ (ls : Array Slot), lv_has ls 5 [(4, .int (nI k4)), (3, .int x3), (0, .ref (am 0)), (1, .int (nI jx)), (2, .int (nI jy))] → W p l e (headSpec (ws_ yX5_may cX5_may 5 (some .int)) ({ frames := 2, cells := 0, slots := 0, locals := 46 } : Room)).room s m ([.ref (am 0), .int (nI jx), .int (nI jy)] : List Value).toArray below meth c H locs 0 0 (MQ below (fQm (S := Unit) D (MO dA am P T G L kt tr) s.heap.size (fun _ => some (.int ((d5_may P (nI jx) (nI jy) Wn).1))) (fun _ => True) (fun _ => MO dA am ((d5_may P (nI jx) (nI jy) Wn).2) T G L kt tr)) ([.ref (am 0), .int (nI jx), .int (nI jy)] : List Value).toArray s 0 0 (fA (MO dA am P T G L kt tr) s.heap.size)) (F0 m 32 ls []) := by
        intro n32
        induction n32 with
        | zero => intro k4 x3 hk hM32; exact absurd hM32 (Nat.not_lt_zero _)
        | succ n32 ih32 =>
          intro k4 x3 hk hM32 hV H locs hI ls hl
          unfold g5_may_32 at hV
          refine lv_iload hx hb dX5_may_32 (lv_at hl 0 rfl) ?_
          refine lv_aload_n hx hb dX5_may_34 rfl (lv_at hl 2 rfl) ?_
          refine f_get hx hb hts in_X5 hown hK hI.1 0 MO_0 rfl 14 (by decide) (hts _ q1524) (fun x h => h) rfl dX5_may_35 ?_
          refine lv_icmp_ge (tgt := 69) hx hb dX5_may_38 (by decide) (fun c_38 => ?_) (fun c_38 => ?_)
          · have e_38 := (nat_le (a := Wn) (b := k4) hwt rfl (by omega) (by omega)).mp c_38
            refine lv_iload_n hx hb dX5_may_69 rfl (lv_at hl 1 rfl) ?_
            have hE : (x3, P) = d5_may P (nI jx) (nI jy) Wn := (by have z := hV; rw [if_pos c_38] at z; exact z)
            exact f_mreti hx hb hr hlocks hI dX5_may_70 () (congrArg (fun z => some (Value.int z.1)) hE) trivial (congrArg (fun z => MO dA am z.2 T G L kt tr) hE)
          · have e_38 := (not_congr (nat_le (a := Wn) (b := k4) hwt rfl (by omega) (by omega))).mp c_38
            refine lv_iload_n hx hb dX5_may_41 rfl (lv_at hl 1 rfl) ?_
            refine lv_aload_n hx hb dX5_may_42 rfl (lv_at hl 2 rfl) ?_
            refine lv_iload hx hb dX5_may_43 (lv_at hl 0 rfl) ?_
            refine lv_iload_n hx hb dX5_may_45 rfl (lv_at hl 3 rfl) ?_
            refine lv_iload_n hx hb dX5_may_46 rfl (lv_at hl 4 rfl) ?_
            refine f_pV hx hb hml hown hts (m5_canBe l D dA am P T G L kt tr  k4 jx (nI jy) (by omega) (by omega)) (cwV 3 hts (lw_V q1851 q1853 qs55 q79 q1854) rfl rfl rfl (by decide +kernel) ⟨Nat.le_of_ble_eq_true rfl, Nat.le_of_ble_eq_true rfl⟩) hG hI.1 f_id MO_0 rfl rfl hl.1 rfl (Nat.le_of_ble_eq_true rfl) dX5_may_47 ⟨Nat.zero_le _, Nat.zero_le _⟩ ?_
            refine lv_if_eq (tgt := 60) hx hb dX5_may_50 (by decide) (fun c_50 => ?_) (fun c_50 => ?_)
            · refine lv_iconst (v := 0) hx hb dX5_may_60 (by decide) ?_
              refine lv_ior hx hb dX5_may_61 ?_
              refine lv_istore_n (lv' := [(3, .int (x3 ||| 0)), (4, .int (nI k4)), (0, .ref (am 0)), (1, .int (nI jx)), (2, .int (nI jy))]) hx hb dX5_may_62 rfl hl (by decide) rfl (fun ls hl => ?_)
              refine lv_iinc (v := nI (k4 + 1)) (lv' := [(4, .int (nI (k4 + 1))), (3, .int (x3 ||| 0)), (0, .ref (am 0)), (1, .int (nI jx)), (2, .int (nI jy))]) hx hb dX5_may_63 hl (k := 1) rfl (nI_1 k4) (by decide) rfl (fun ls hl => ?_)
              refine lv_goto (tgt := 32) hx hb dX5_may_66 (by decide) ?_
              exact ih32 (k4 + 1) (x3 ||| 0) (by omega) (by omega) (by have z := hV; rw [if_neg c_38, if_pos c_50] at z; exact z) _ _ hI ls (lv_sub hl [0, 1, 2, 3, 4] rfl)
            · refine lv_iconst (v := 1) hx hb dX5_may_53 (by decide) ?_
              refine lv_iload hx hb dX5_may_54 (lv_at hl 0 rfl) ?_
              refine lv_ishl hx hb dX5_may_56 ?_
              refine lv_goto (tgt := 61) hx hb dX5_may_57 (by decide) ?_
              refine lv_ior hx hb dX5_may_61 ?_
              refine lv_istore_n (lv' := [(3, .int (x3 ||| (1 <<< ((nI k4) &&& 31)))), (4, .int (nI k4)), (0, .ref (am 0)), (1, .int (nI jx)), (2, .int (nI jy))]) hx hb dX5_may_62 rfl hl (by decide) rfl (fun ls hl => ?_)
              refine lv_iinc (v := nI (k4 + 1)) (lv' := [(4, .int (nI (k4 + 1))), (3, .int (x3 ||| (1 <<< ((nI k4) &&& 31)))), (0, .ref (am 0)), (1, .int (nI jx)), (2, .int (nI jy))]) hx hb dX5_may_63 hl (k := 1) rfl (nI_1 k4) (by decide) rfl (fun ls hl => ?_)
              refine lv_goto (tgt := 32) hx hb dX5_may_66 (by decide) ?_
              exact ih32 (k4 + 1) (x3 ||| (1 <<< ((nI k4) &&& 31))) (by omega) (by omega) (by have z := hV; rw [if_neg c_38, if_neg c_50] at z; exact z) _ _ hI ls (lv_sub hl [0, 1, 2, 3, 4] rfl)
      exact lp_32 (Wn + 1) 0 0 (by omega) (by omega) (by unfold d5_may; (try simp only [cN_nI (show jx < 65536 by omega), cN_nI (show jy < 65536 by omega)]); rw [if_neg c_5, if_neg c_17]) _ _ hI ls (lv_sub hl [0, 1, 2, 3, 4] rfl)
    · refine lv_aload_n hx hb dX5_may_20 rfl (lv_at hl 0 rfl) ?_
      refine lv_bipush (v := -2) hx hb dX5_may_21 (by decide) ?_
      refine f_mV0 hx hb hml hown hts (m5_refuse l D dA am P T G L kt tr _  2 (by omega)) (cwV 1 hts (lw_V q1629 q1631 qs32 q79 q1632) rfl rfl rfl (by decide +kernel) ⟨Nat.le_of_ble_eq_true rfl, Nat.le_of_ble_eq_true rfl⟩) hG hI MO_0 rfl rfl hl.1 rfl (Nat.le_of_ble_eq_true rfl) dX5_may_23 ⟨Nat.zero_le _, Nat.zero_le _⟩ (fun _ H locs _ hI => ?_)
      have hE : (-(nI 2), up P 13 2 (P 13 2 + 1)) = d5_may P (nI jx) y Wn := (by unfold d5_may; (try simp only [cN_nI (show jx < 65536 by omega)]); rw [if_neg c_5, if_pos c_17])
      exact f_mreti hx hb hr hlocks hI dX5_may_26 () (congrArg (fun z => some (Value.int z.1)) hE) trivial (congrArg (fun z => MO dA am z.2 T G L kt tr) hE)
def g5_hardest_4 (P : Nat → Nat → Int32)  : Nat → Nat → Int32 → Int32 × (Nat → Nat → Int32)
  | 0, _, _ => (0, fun _ _ => 0)
  | n + 1, k2, x1 => if (P 7 0) ≤ (nI k2) then (if x1 = (-1) then (-(nI 5), up P 13 5 (P 13 5 + 1)) else (x1, P)) else (if x1 = (-1) then g5_hardest_4 P n (k2 + 1) (nI k2) else (if (P 0 k2) ≤ (P 0 (cN x1)) then g5_hardest_4 P n (k2 + 1) x1 else g5_hardest_4 P n (k2 + 1) (nI k2)))
def d5_hardest (P : Nat → Nat → Int32) (S : Nat) : Int32 × (Nat → Nat → Int32) := g5_hardest_4 P (S + 1) 0 (-1)
set_option maxHeartbeats 4000000 in
set_option maxRecDepth 100000 in
theorem m5_hardest (l : Launch) (D : va_G) (dA : Nat → ClassId) (am : Nat → Nat) (P T : Nat → Nat → Int32) (G : Nat → Int32) (L : Nat → Nat → Int64) (kt tr : Option Nat) (sz : Nat) (S : Nat)  (hst : P 7 0 = nI S) (hS : S ≤ 9) : Met l yX5_hardest (ws_ yX5_hardest cX5_hardest 3 (some .int)) ({ frames := 1, cells := 0, slots := 0, locals := 21 } : Room) (fPm D dA (MO dA am P T G L kt tr) sz [.ref (am 0)]) (fQm (S := Unit) D (MO dA am P T G L kt tr) sz (fun _ => some (.int ((d5_hardest P S).1))) (fun _ => True) (fun _ => MO dA am ((d5_hardest P S).2) T G L kt tr)) 0 0 (fA (MO dA am P T G L kt tr) sz) := by
  refine Met.ofW (cc := cX5_hardest) (maxL := 3) (ret := (some .int)) (by decide) rfl ?_
  intro p e s m args below meth c s₁ B hml hv
  obtain ⟨rfl, hsz, hP0, hG, hD0⟩ := hv
  have hK := hG.1
  have hx := B.exec
  have hb := B.bytes
  have hr := B.returns
  have hts := atoms_spec (ws := (ws_ yX5_hardest cX5_hardest 3 (some .int))) B.pre
  have hts : ∀ w ∈ lw_all, w.before _ s = true := fun w h => hts w (List.mem_cons_of_mem _ h)
  have hown : s.vm.findClass RX5 = some m.cls := findClass_of_methodNamed B.named
  have hlocks := B.notSynchronized
  subst hsz
  have hI := FI.start hP0 hD0
  have hl := lv_entry ([.ref (am 0)]) (n := 3) (Nat.le_of_ble_eq_true rfl)
  rw [lg_entry_eq]
  generalize (lg_sl ([.ref (am 0)]) ++ List.replicate (3 - (lg_sl ([.ref (am 0)])).length) Slot.unset).toArray = ls at hl ⊢
  have hl : lv_has ls 3 [(0, .ref (am 0))] := hl
  refine lv_iconst (v := -1) hx hb dX5_hardest_0 (by decide) ?_
  refine lv_istore_n (lv' := [(1, .int (-1)), (0, .ref (am 0))]) hx hb dX5_hardest_1 rfl hl (by decide) rfl (fun ls hl => ?_)
  refine lv_iconst (v := 0) hx hb dX5_hardest_2 (by decide) ?_
  refine lv_istore_n (lv' := [(2, .int 0), (1, .int (-1)), (0, .ref (am 0))]) hx hb dX5_hardest_3 rfl hl (by decide) rfl (fun ls hl => ?_)
  have lp_4 : ∀ (n4 : Nat) (k2 : Nat) (x1 : Int32), (k2 ≤ S) → (x1 = -1 ∨ ∃ j : Nat, j < k2 ∧ x1 = nI j) → S - k2 < n4 → g5_hardest_4 P n4 k2 x1 = d5_hardest P S → ∀ (H : Heap) (locs : List Loc), FI D gcl (fA (MO dA am P T G L kt tr) s.heap.size) s.heap (MO dA am P T G L kt tr) H locs → ∀ (ls : Array Slot), lv_has ls 3 [(2, .int (nI k2)), (1, .int x1), (0, .ref (am 0))] → W p l e (headSpec (ws_ yX5_hardest cX5_hardest 3 (some .int)) ({ frames := 1, cells := 0, slots := 0, locals := 21 } : Room)).room s m ([.ref (am 0)] : List Value).toArray below meth c H locs 0 0 (MQ below (fQm (S := Unit) D (MO dA am P T G L kt tr) s.heap.size (fun _ => some (.int ((d5_hardest P S).1))) (fun _ => True) (fun _ => MO dA am ((d5_hardest P S).2) T G L kt tr)) ([.ref (am 0)] : List Value).toArray s 0 0 (fA (MO dA am P T G L kt tr) s.heap.size)) (F0 m 4 ls []) := by
    intro n4
    induction n4 with
    | zero => intro k2 x1 hk hbs hM4; exact absurd hM4 (Nat.not_lt_zero _)
    | succ n4 ih4 =>
      intro k2 x1 hk hbs hM4 hV H locs hI ls hl
      unfold g5_hardest_4 at hV
      refine lv_iload_n hx hb dX5_hardest_4 rfl (lv_at hl 0 rfl) ?_
      refine lv_aload_n hx hb dX5_hardest_5 rfl (lv_at hl 2 rfl) ?_
      refine f_get hx hb hts in_X5 hown hK hI.1 0 MO_0 rfl 9 (by decide) (hts _ q1519) (fun x h => h) rfl dX5_hardest_6 ?_
      refine lv_icmp_ge (tgt := 44) hx hb dX5_hardest_9 (by decide) (fun c_9 => ?_) (fun c_9 => ?_)
      · have e_9 := (nat_le (a := S) (b := k2) hst rfl (by omega) (by omega)).mp c_9
        refine lv_iload_n hx hb dX5_hardest_44 rfl (lv_at hl 1 rfl) ?_
        refine lv_iconst (v := -1) hx hb dX5_hardest_45 (by decide) ?_
        refine lv_icmp_ne (tgt := 58) hx hb dX5_hardest_46 (by decide) (fun c_46 => ?_) (fun c_46 => ?_)
        · refine lv_iload_n hx hb dX5_hardest_58 rfl (lv_at hl 1 rfl) ?_
          have hE : (x1, P) = d5_hardest P S := (by have z := hV; rw [if_pos c_9, if_neg c_46] at z; exact z)
          exact f_mreti hx hb hr hlocks hI dX5_hardest_59 () (congrArg (fun z => some (Value.int z.1)) hE) trivial (congrArg (fun z => MO dA am z.2 T G L kt tr) hE)
        · refine lv_aload_n hx hb dX5_hardest_49 rfl (lv_at hl 2 rfl) ?_
          refine lv_bipush (v := -5) hx hb dX5_hardest_50 (by decide) ?_
          refine f_mV0 hx hb hml hown hts (m5_refuse l D dA am P T G L kt tr _  5 (by omega)) (cwV 1 hts (lw_V q1629 q1631 qs32 q79 q1632) rfl rfl rfl (by decide +kernel) ⟨Nat.le_of_ble_eq_true rfl, Nat.le_of_ble_eq_true rfl⟩) hG hI MO_0 rfl rfl hl.1 rfl (Nat.le_of_ble_eq_true rfl) dX5_hardest_52 ⟨Nat.zero_le _, Nat.zero_le _⟩ (fun _ H locs _ hI => ?_)
          refine lv_goto (tgt := 59) hx hb dX5_hardest_55 (by decide) ?_
          have hE : (-(nI 5), up P 13 5 (P 13 5 + 1)) = d5_hardest P S := (by have z := hV; rw [if_pos c_9, if_pos c_46] at z; exact z)
          exact f_mreti hx hb hr hlocks hI dX5_hardest_59 () (congrArg (fun z => some (Value.int z.1)) hE) trivial (congrArg (fun z => MO dA am z.2 T G L kt tr) hE)
      · have e_9 := (not_congr (nat_le (a := S) (b := k2) hst rfl (by omega) (by omega))).mp c_9
        refine lv_iload_n hx hb dX5_hardest_12 rfl (lv_at hl 1 rfl) ?_
        refine lv_iconst (v := -1) hx hb dX5_hardest_13 (by decide) ?_
        refine lv_icmp_eq (tgt := 32) hx hb dX5_hardest_14 (by decide) (fun c_14 => ?_) (fun c_14 => ?_)
        · refine lv_iload_n hx hb dX5_hardest_32 rfl (lv_at hl 0 rfl) ?_
          refine lv_goto (tgt := 37) hx hb dX5_hardest_33 (by decide) ?_
          refine lv_istore_n (lv' := [(1, .int (nI k2)), (2, .int (nI k2)), (0, .ref (am 0))]) hx hb dX5_hardest_37 rfl hl (by decide) rfl (fun ls hl => ?_)
          refine lv_iinc (v := nI (k2 + 1)) (lv' := [(2, .int (nI (k2 + 1))), (1, .int (nI k2)), (0, .ref (am 0))]) hx hb dX5_hardest_38 hl (k := 1) rfl (nI_1 k2) (by decide) rfl (fun ls hl => ?_)
          refine lv_goto (tgt := 4) hx hb dX5_hardest_41 (by decide) ?_
          exact ih4 (k2 + 1) (nI k2) (by omega) (Or.inr ⟨_, by omega, rfl⟩) (by omega) (by have z := hV; rw [if_neg c_9, if_pos c_14] at z; exact z) _ _ hI ls (lv_sub hl [0, 1, 2] rfl)
        · obtain ⟨jx1, h_jx1, rfl⟩ := hbs.resolve_left c_14
          refine lv_aload_n hx hb dX5_hardest_17 rfl (lv_at hl 2 rfl) ?_
          refine f_get hx hb hts in_X5 hown hK hI.1 0 MO_0 rfl 10 (by decide) (hts _ q1520) (fun x h => h) rfl dX5_hardest_18 ?_
          refine lv_iload_n hx hb dX5_hardest_21 rfl (lv_at hl 0 rfl) ?_
          refine f_iald hx hb hK hI.1 9 0 MO_9 rfl k2 rfl (by omega) (by decide) dX5_hardest_22 ?_
          refine lv_aload_n hx hb dX5_hardest_23 rfl (lv_at hl 2 rfl) ?_
          refine f_get hx hb hts in_X5 hown hK hI.1 0 MO_0 rfl 10 (by decide) (hts _ q1520) (fun x h => h) rfl dX5_hardest_24 ?_
          refine lv_iload_n hx hb dX5_hardest_27 rfl (lv_at hl 1 rfl) ?_
          refine f_iald hx hb hK hI.1 9 0 MO_9 rfl jx1 rfl (by omega) (by decide) dX5_hardest_28 ?_
          refine lv_icmp_le (tgt := 36) hx hb dX5_hardest_29 (by decide) (fun c_29 => ?_) (fun c_29 => ?_)
          · refine lv_iload_n hx hb dX5_hardest_36 rfl (lv_at hl 1 rfl) ?_
            refine lv_istore_n (lv' := [(1, .int (nI jx1)), (2, .int (nI k2)), (0, .ref (am 0))]) hx hb dX5_hardest_37 rfl hl (by decide) rfl (fun ls hl => ?_)
            refine lv_iinc (v := nI (k2 + 1)) (lv' := [(2, .int (nI (k2 + 1))), (1, .int (nI jx1)), (0, .ref (am 0))]) hx hb dX5_hardest_38 hl (k := 1) rfl (nI_1 k2) (by decide) rfl (fun ls hl => ?_)
            refine lv_goto (tgt := 4) hx hb dX5_hardest_41 (by decide) ?_
            exact ih4 (k2 + 1) (nI jx1) (by omega) (Or.inr ⟨_, by omega, rfl⟩) (by omega) (by have z := hV; (try simp only [cN_nI (show jx1 < 65536 by omega)] at z); rw [if_neg c_9, if_neg c_14, if_pos c_29] at z; exact z) _ _ hI ls (lv_sub hl [0, 1, 2] rfl)
          · refine lv_iload_n hx hb dX5_hardest_32 rfl (lv_at hl 0 rfl) ?_
            refine lv_goto (tgt := 37) hx hb dX5_hardest_33 (by decide) ?_
            refine lv_istore_n (lv' := [(1, .int (nI k2)), (2, .int (nI k2)), (0, .ref (am 0))]) hx hb dX5_hardest_37 rfl hl (by decide) rfl (fun ls hl => ?_)
            refine lv_iinc (v := nI (k2 + 1)) (lv' := [(2, .int (nI (k2 + 1))), (1, .int (nI k2)), (0, .ref (am 0))]) hx hb dX5_hardest_38 hl (k := 1) rfl (nI_1 k2) (by decide) rfl (fun ls hl => ?_)
            refine lv_goto (tgt := 4) hx hb dX5_hardest_41 (by decide) ?_
            exact ih4 (k2 + 1) (nI k2) (by omega) (Or.inr ⟨_, by omega, rfl⟩) (by omega) (by have z := hV; (try simp only [cN_nI (show jx1 < 65536 by omega)] at z); rw [if_neg c_9, if_neg c_14, if_neg c_29] at z; exact z) _ _ hI ls (lv_sub hl [0, 1, 2] rfl)
  exact lp_4 (S + 1) 0 (-1) (by omega) (Or.inl rfl) (by omega) (by unfold d5_hardest; rfl) _ _ hI ls (lv_sub hl [0, 1, 2] rfl)
def g5_lightest_19 (P : Nat → Nat → Int32) (jx : Nat)  : Nat → Nat → Int32 → Int32 × (Nat → Nat → Int32)
  | 0, _, _ => (0, fun _ _ => 0)
  | n + 1, k3, x2 => if (P 7 1) ≤ (nI k3) then (if x2 = (-1) then (-(nI 5), up P 13 5 (P 13 5 + 1)) else (x2, P)) else (if x2 = (-1) then g5_lightest_19 P jx n (k3 + 1) (nI k3) else (if (d5_load P (cN x2) jx) ≤ (d5_load P k3 jx) then g5_lightest_19 P jx n (k3 + 1) x2 else g5_lightest_19 P jx n (k3 + 1) (nI k3)))
def d5_lightest (P : Nat → Nat → Int32) (x : Int32) (Wn : Nat) : Int32 × (Nat → Nat → Int32) := if (d5_isStep P x) = 0 then (-(nI 2), up P 13 2 (P 13 2 + 1)) else g5_lightest_19 P (cN x) (Wn + 1) 0 (-1)
set_option maxHeartbeats 4000000 in
set_option maxRecDepth 100000 in
theorem m5_lightest (l : Launch) (D : va_G) (dA : Nat → ClassId) (am : Nat → Nat) (P T : Nat → Nat → Int32) (G : Nat → Int32) (L : Nat → Nat → Int64) (kt tr : Option Nat) (sz : Nat) (S : Nat) (Wn : Nat) (x : Int32) (hst : P 7 0 = nI S) (hS : S ≤ 9) (hwt : P 7 1 = nI Wn) (hW : Wn ≤ 6) : Met l yX5_lightest (ws_ yX5_lightest cX5_lightest 4 (some .int)) ({ frames := 2, cells := 0, slots := 0, locals := 46 } : Room) (fPm D dA (MO dA am P T G L kt tr) sz [.ref (am 0), .int x]) (fQm (S := Unit) D (MO dA am P T G L kt tr) sz (fun _ => some (.int ((d5_lightest P x Wn).1))) (fun _ => True) (fun _ => MO dA am ((d5_lightest P x Wn).2) T G L kt tr)) 0 0 (fA (MO dA am P T G L kt tr) sz) := by
  refine Met.ofW (cc := cX5_lightest) (maxL := 4) (ret := (some .int)) (by decide) rfl ?_
  intro p e s m args below meth c s₁ B hml hv
  obtain ⟨rfl, hsz, hP0, hG, hD0⟩ := hv
  have hK := hG.1
  have hx := B.exec
  have hb := B.bytes
  have hr := B.returns
  have hts := atoms_spec (ws := (ws_ yX5_lightest cX5_lightest 4 (some .int))) B.pre
  have hts : ∀ w ∈ lw_all, w.before _ s = true := fun w h => hts w (List.mem_cons_of_mem _ h)
  have hown : s.vm.findClass RX5 = some m.cls := findClass_of_methodNamed B.named
  have hlocks := B.notSynchronized
  subst hsz
  have hI := FI.start hP0 hD0
  have hl := lv_entry ([.ref (am 0), .int x]) (n := 4) (Nat.le_of_ble_eq_true rfl)
  rw [lg_entry_eq]
  generalize (lg_sl ([.ref (am 0), .int x]) ++ List.replicate (4 - (lg_sl ([.ref (am 0), .int x])).length) Slot.unset).toArray = ls at hl ⊢
  have hl : lv_has ls 4 [(0, .ref (am 0)), (1, .int x)] := hl
  refine lv_aload_n hx hb dX5_lightest_0 rfl (lv_at hl 0 rfl) ?_
  refine lv_iload_n hx hb dX5_lightest_1 rfl (lv_at hl 1 rfl) ?_
  refine f_pV hx hb hml hown hts (m5_isStep l D dA am P T G L kt tr  x ) (cwV 1 hts (lw_V q1715 q1717 qs41 q79 q1718) rfl rfl rfl (by decide +kernel) ⟨Nat.le_of_ble_eq_true rfl, Nat.le_of_ble_eq_true rfl⟩) hG hI.1 f_id MO_0 rfl rfl hl.1 rfl (Nat.le_of_ble_eq_true rfl) dX5_lightest_2 ⟨Nat.zero_le _, Nat.zero_le _⟩ ?_
  refine lv_if_ne (tgt := 15) hx hb dX5_lightest_5 (by decide) (fun c_5 => ?_) (fun c_5 => ?_)
  · obtain ⟨jx, h_jx, rfl⟩ := isStep_nat c_5 hst hS
    refine lv_iconst (v := -1) hx hb dX5_lightest_15 (by decide) ?_
    refine lv_istore_n (lv' := [(2, .int (-1)), (0, .ref (am 0)), (1, .int (nI jx))]) hx hb dX5_lightest_16 rfl hl (by decide) rfl (fun ls hl => ?_)
    refine lv_iconst (v := 0) hx hb dX5_lightest_17 (by decide) ?_
    refine lv_istore_n (lv' := [(3, .int 0), (2, .int (-1)), (0, .ref (am 0)), (1, .int (nI jx))]) hx hb dX5_lightest_18 rfl hl (by decide) rfl (fun ls hl => ?_)
    have lp_19 : ∀ (n19 : Nat) (k3 : Nat) (x2 : Int32), (k3 ≤ Wn) → (x2 = -1 ∨ ∃ j : Nat, j < k3 ∧ x2 = nI j) → Wn - k3 < n19 → g5_lightest_19 P jx n19 k3 x2 = d5_lightest P (nI jx) Wn → ∀ (H : Heap) (locs : List Loc), FI D gcl (fA (MO dA am P T G L kt tr) s.heap.size) s.heap (MO dA am P T G L kt tr) H locs → ∀ (ls : Array Slot), lv_has ls 4 [(3, .int (nI k3)), (2, .int x2), (0, .ref (am 0)), (1, .int (nI jx))] → W p l e (headSpec (ws_ yX5_lightest cX5_lightest 4 (some .int)) ({ frames := 2, cells := 0, slots := 0, locals := 46 } : Room)).room s m ([.ref (am 0), .int (nI jx)] : List Value).toArray below meth c H locs 0 0 (MQ below (fQm (S := Unit) D (MO dA am P T G L kt tr) s.heap.size (fun _ => some (.int ((d5_lightest P (nI jx) Wn).1))) (fun _ => True) (fun _ => MO dA am ((d5_lightest P (nI jx) Wn).2) T G L kt tr)) ([.ref (am 0), .int (nI jx)] : List Value).toArray s 0 0 (fA (MO dA am P T G L kt tr) s.heap.size)) (F0 m 19 ls []) := by
      intro n19
      induction n19 with
      | zero => intro k3 x2 hk hbs hM19; exact absurd hM19 (Nat.not_lt_zero _)
      | succ n19 ih19 =>
        intro k3 x2 hk hbs hM19 hV H locs hI ls hl
        unfold g5_lightest_19 at hV
        refine lv_iload_n hx hb dX5_lightest_19 rfl (lv_at hl 0 rfl) ?_
        refine lv_aload_n hx hb dX5_lightest_20 rfl (lv_at hl 2 rfl) ?_
        refine f_get hx hb hts in_X5 hown hK hI.1 0 MO_0 rfl 14 (by decide) (hts _ q1524) (fun x h => h) rfl dX5_lightest_21 ?_
        refine lv_icmp_ge (tgt := 59) hx hb dX5_lightest_24 (by decide) (fun c_24 => ?_) (fun c_24 => ?_)
        · have e_24 := (nat_le (a := Wn) (b := k3) hwt rfl (by omega) (by omega)).mp c_24
          refine lv_iload_n hx hb dX5_lightest_59 rfl (lv_at hl 1 rfl) ?_
          refine lv_iconst (v := -1) hx hb dX5_lightest_60 (by decide) ?_
          refine lv_icmp_ne (tgt := 73) hx hb dX5_lightest_61 (by decide) (fun c_61 => ?_) (fun c_61 => ?_)
          · refine lv_iload_n hx hb dX5_lightest_73 rfl (lv_at hl 1 rfl) ?_
            have hE : (x2, P) = d5_lightest P (nI jx) Wn := (by have z := hV; rw [if_pos c_24, if_neg c_61] at z; exact z)
            exact f_mreti hx hb hr hlocks hI dX5_lightest_74 () (congrArg (fun z => some (Value.int z.1)) hE) trivial (congrArg (fun z => MO dA am z.2 T G L kt tr) hE)
          · refine lv_aload_n hx hb dX5_lightest_64 rfl (lv_at hl 2 rfl) ?_
            refine lv_bipush (v := -5) hx hb dX5_lightest_65 (by decide) ?_
            refine f_mV0 hx hb hml hown hts (m5_refuse l D dA am P T G L kt tr _  5 (by omega)) (cwV 1 hts (lw_V q1629 q1631 qs32 q79 q1632) rfl rfl rfl (by decide +kernel) ⟨Nat.le_of_ble_eq_true rfl, Nat.le_of_ble_eq_true rfl⟩) hG hI MO_0 rfl rfl hl.1 rfl (Nat.le_of_ble_eq_true rfl) dX5_lightest_67 ⟨Nat.zero_le _, Nat.zero_le _⟩ (fun _ H locs _ hI => ?_)
            refine lv_goto (tgt := 74) hx hb dX5_lightest_70 (by decide) ?_
            have hE : (-(nI 5), up P 13 5 (P 13 5 + 1)) = d5_lightest P (nI jx) Wn := (by have z := hV; rw [if_pos c_24, if_pos c_61] at z; exact z)
            exact f_mreti hx hb hr hlocks hI dX5_lightest_74 () (congrArg (fun z => some (Value.int z.1)) hE) trivial (congrArg (fun z => MO dA am z.2 T G L kt tr) hE)
        · have e_24 := (not_congr (nat_le (a := Wn) (b := k3) hwt rfl (by omega) (by omega))).mp c_24
          refine lv_iload_n hx hb dX5_lightest_27 rfl (lv_at hl 1 rfl) ?_
          refine lv_iconst (v := -1) hx hb dX5_lightest_28 (by decide) ?_
          refine lv_icmp_eq (tgt := 47) hx hb dX5_lightest_29 (by decide) (fun c_29 => ?_) (fun c_29 => ?_)
          · refine lv_iload_n hx hb dX5_lightest_47 rfl (lv_at hl 0 rfl) ?_
            refine lv_goto (tgt := 52) hx hb dX5_lightest_48 (by decide) ?_
            refine lv_istore_n (lv' := [(2, .int (nI k3)), (3, .int (nI k3)), (0, .ref (am 0)), (1, .int (nI jx))]) hx hb dX5_lightest_52 rfl hl (by decide) rfl (fun ls hl => ?_)
            refine lv_iinc (v := nI (k3 + 1)) (lv' := [(3, .int (nI (k3 + 1))), (2, .int (nI k3)), (0, .ref (am 0)), (1, .int (nI jx))]) hx hb dX5_lightest_53 hl (k := 1) rfl (nI_1 k3) (by decide) rfl (fun ls hl => ?_)
            refine lv_goto (tgt := 19) hx hb dX5_lightest_56 (by decide) ?_
            exact ih19 (k3 + 1) (nI k3) (by omega) (Or.inr ⟨_, by omega, rfl⟩) (by omega) (by have z := hV; rw [if_neg c_24, if_pos c_29] at z; exact z) _ _ hI ls (lv_sub hl [0, 1, 2, 3] rfl)
          · obtain ⟨jx2, h_jx2, rfl⟩ := hbs.resolve_left c_29
            refine lv_aload_n hx hb dX5_lightest_32 rfl (lv_at hl 2 rfl) ?_
            refine lv_iload_n hx hb dX5_lightest_33 rfl (lv_at hl 0 rfl) ?_
            refine lv_iload_n hx hb dX5_lightest_34 rfl (lv_at hl 3 rfl) ?_
            refine f_pV hx hb hml hown hts (m5_load l D dA am P T G L kt tr  k3 jx (by omega) (by omega)) (cwV 2 hts (lw_V q1684 q1686 qs38 q79 q1687) rfl rfl rfl (by decide +kernel) ⟨Nat.le_of_ble_eq_true rfl, Nat.le_of_ble_eq_true rfl⟩) hG hI.1 f_id MO_0 rfl rfl hl.1 rfl (Nat.le_of_ble_eq_true rfl) dX5_lightest_35 ⟨Nat.zero_le _, Nat.zero_le _⟩ ?_
            refine lv_aload_n hx hb dX5_lightest_38 rfl (lv_at hl 2 rfl) ?_
            refine lv_iload_n hx hb dX5_lightest_39 rfl (lv_at hl 1 rfl) ?_
            refine lv_iload_n hx hb dX5_lightest_40 rfl (lv_at hl 3 rfl) ?_
            refine f_pV hx hb hml hown hts (m5_load l D dA am P T G L kt tr  jx2 jx (by omega) (by omega)) (cwV 2 hts (lw_V q1684 q1686 qs38 q79 q1687) rfl rfl rfl (by decide +kernel) ⟨Nat.le_of_ble_eq_true rfl, Nat.le_of_ble_eq_true rfl⟩) hG hI.1 f_id MO_0 rfl rfl hl.1 rfl (Nat.le_of_ble_eq_true rfl) dX5_lightest_41 ⟨Nat.zero_le _, Nat.zero_le _⟩ ?_
            refine lv_icmp_ge (tgt := 51) hx hb dX5_lightest_44 (by decide) (fun c_44 => ?_) (fun c_44 => ?_)
            · refine lv_iload_n hx hb dX5_lightest_51 rfl (lv_at hl 1 rfl) ?_
              refine lv_istore_n (lv' := [(2, .int (nI jx2)), (3, .int (nI k3)), (0, .ref (am 0)), (1, .int (nI jx))]) hx hb dX5_lightest_52 rfl hl (by decide) rfl (fun ls hl => ?_)
              refine lv_iinc (v := nI (k3 + 1)) (lv' := [(3, .int (nI (k3 + 1))), (2, .int (nI jx2)), (0, .ref (am 0)), (1, .int (nI jx))]) hx hb dX5_lightest_53 hl (k := 1) rfl (nI_1 k3) (by decide) rfl (fun ls hl => ?_)
              refine lv_goto (tgt := 19) hx hb dX5_lightest_56 (by decide) ?_
              exact ih19 (k3 + 1) (nI jx2) (by omega) (Or.inr ⟨_, by omega, rfl⟩) (by omega) (by have z := hV; (try simp only [cN_nI (show jx2 < 65536 by omega)] at z); rw [if_neg c_24, if_neg c_29, if_pos c_44] at z; exact z) _ _ hI ls (lv_sub hl [0, 1, 2, 3] rfl)
            · refine lv_iload_n hx hb dX5_lightest_47 rfl (lv_at hl 0 rfl) ?_
              refine lv_goto (tgt := 52) hx hb dX5_lightest_48 (by decide) ?_
              refine lv_istore_n (lv' := [(2, .int (nI k3)), (3, .int (nI k3)), (0, .ref (am 0)), (1, .int (nI jx))]) hx hb dX5_lightest_52 rfl hl (by decide) rfl (fun ls hl => ?_)
              refine lv_iinc (v := nI (k3 + 1)) (lv' := [(3, .int (nI (k3 + 1))), (2, .int (nI k3)), (0, .ref (am 0)), (1, .int (nI jx))]) hx hb dX5_lightest_53 hl (k := 1) rfl (nI_1 k3) (by decide) rfl (fun ls hl => ?_)
              refine lv_goto (tgt := 19) hx hb dX5_lightest_56 (by decide) ?_
              exact ih19 (k3 + 1) (nI k3) (by omega) (Or.inr ⟨_, by omega, rfl⟩) (by omega) (by have z := hV; (try simp only [cN_nI (show jx2 < 65536 by omega)] at z); rw [if_neg c_24, if_neg c_29, if_neg c_44] at z; exact z) _ _ hI ls (lv_sub hl [0, 1, 2, 3] rfl)
    exact lp_19 (Wn + 1) 0 (-1) (by omega) (Or.inl rfl) (by omega) (by unfold d5_lightest; (try simp only [cN_nI (show jx < 65536 by omega)]); rw [if_neg c_5]) _ _ hI ls (lv_sub hl [0, 1, 2, 3] rfl)
  · refine lv_aload_n hx hb dX5_lightest_8 rfl (lv_at hl 0 rfl) ?_
    refine lv_bipush (v := -2) hx hb dX5_lightest_9 (by decide) ?_
    refine f_mV0 hx hb hml hown hts (m5_refuse l D dA am P T G L kt tr _  2 (by omega)) (cwV 1 hts (lw_V q1629 q1631 qs32 q79 q1632) rfl rfl rfl (by decide +kernel) ⟨Nat.le_of_ble_eq_true rfl, Nat.le_of_ble_eq_true rfl⟩) hG hI MO_0 rfl rfl hl.1 rfl (Nat.le_of_ble_eq_true rfl) dX5_lightest_11 ⟨Nat.zero_le _, Nat.zero_le _⟩ (fun _ H locs _ hI => ?_)
    have hE : (-(nI 2), up P 13 2 (P 13 2 + 1)) = d5_lightest P x Wn := (by unfold d5_lightest; rw [if_pos c_5])
    exact f_mreti hx hb hr hlocks hI dX5_lightest_14 () (congrArg (fun z => some (Value.int z.1)) hE) trivial (congrArg (fun z => MO dA am z.2 T G L kt tr) hE)
def d5_draw (P : Nat → Nat → Int32) (x : Int32) : Int32 × (Nat → Nat → Int32) := ((((((P 7 5) * 1103515245) + 12345).toUInt32 >>> ((16 : Int32).toUInt32 &&& Int32.toUInt32 31)).toInt32) - (((((P 7 5) * 1103515245) + 12345).toUInt32 >>> ((16 : Int32).toUInt32 &&& Int32.toUInt32 31)).toInt32) / x * x, up P 7 5 (((P 7 5) * 1103515245) + 12345))
set_option maxHeartbeats 4000000 in
set_option maxRecDepth 100000 in
theorem m5_draw (l : Launch) (D : va_G) (dA : Nat → ClassId) (am : Nat → Nat) (P T : Nat → Nat → Int32) (G : Nat → Int32) (L : Nat → Nat → Int64) (kt tr : Option Nat) (sz : Nat)  (x : Int32) (hx0 : ¬ x = 0) : Met l yX5_draw (ws_ yX5_draw cX5_draw 2 (some .int)) ({ frames := 0, cells := 0, slots := 0, locals := 0 } : Room) (fPm D dA (MO dA am P T G L kt tr) sz [.ref (am 0), .int x]) (fQm (S := Unit) D (MO dA am P T G L kt tr) sz (fun _ => some (.int ((d5_draw P x).1))) (fun _ => True) (fun _ => MO dA am ((d5_draw P x).2) T G L kt tr)) 0 0 (fA (MO dA am P T G L kt tr) sz) := by
  refine Met.ofW (cc := cX5_draw) (maxL := 2) (ret := (some .int)) (by decide) rfl ?_
  intro p e s m args below meth c s₁ B hml hv
  obtain ⟨rfl, hsz, hP0, hG, hD0⟩ := hv
  have hK := hG.1
  have hx := B.exec
  have hb := B.bytes
  have hr := B.returns
  have hts := atoms_spec (ws := (ws_ yX5_draw cX5_draw 2 (some .int))) B.pre
  have hts : ∀ w ∈ lw_all, w.before _ s = true := fun w h => hts w (List.mem_cons_of_mem _ h)
  have hown : s.vm.findClass RX5 = some m.cls := findClass_of_methodNamed B.named
  have hlocks := B.notSynchronized
  subst hsz
  have hI := FI.start hP0 hD0
  have hl := lv_entry ([.ref (am 0), .int x]) (n := 2) (Nat.le_of_ble_eq_true rfl)
  rw [lg_entry_eq]
  generalize (lg_sl ([.ref (am 0), .int x]) ++ List.replicate (2 - (lg_sl ([.ref (am 0), .int x])).length) Slot.unset).toArray = ls at hl ⊢
  have hl : lv_has ls 2 [(0, .ref (am 0)), (1, .int x)] := hl
  refine lv_aload_n hx hb dX5_draw_0 rfl (lv_at hl 0 rfl) ?_
  refine lv_aload_n hx hb dX5_draw_1 rfl (lv_at hl 0 rfl) ?_
  refine f_get hx hb hts in_X5 hown hK hI.1 0 MO_0 rfl 21 (by decide) (hts _ q1531) (fun x h => h) rfl dX5_draw_2 ?_
  refine lv_ldcw (v := 1103515245) hx hb hown (hts _ q2002) dX5_draw_5 ?_
  refine lv_imul hx hb dX5_draw_8 ?_
  refine lv_sipush (v := 12345) hx hb dX5_draw_9 (by decide) ?_
  refine lv_iadd hx hb dX5_draw_12 ?_
  refine f_put hx hb hts in_X5 tyX5 tyX5_ok nmX5 hown hK hI 0 MO_0 rfl 21 (by decide) (hts _ q1531) (fun x h => h) rfl (ttyX5_21) rfl rfl (Nat.le_of_ble_eq_true rfl) dX5_draw_13 (fun H locs hI => ?_)
  have hI := hI.congr MO_f21
  refine lv_aload_n hx hb dX5_draw_16 rfl (lv_at hl 0 rfl) ?_
  refine f_get hx hb hts in_X5 hown hK hI.1 0 MO_0 rfl 21 (by decide) (hts _ q1531) (fun x h => h) rfl dX5_draw_17 ?_
  refine lv_bipush (v := 16) hx hb dX5_draw_20 (by decide) ?_
  refine lv_iushr (v := ((((P 7 5) * 1103515245) + 12345).toUInt32 >>> ((16 : Int32).toUInt32 &&& Int32.toUInt32 31)).toInt32) hx hb dX5_draw_22 rfl ?_
  refine lv_iload_n hx hb dX5_draw_23 rfl (lv_at hl 1 rfl) ?_
  refine lv_irem hx hb dX5_draw_24 hx0 ?_
  have hE : ((((((P 7 5) * 1103515245) + 12345).toUInt32 >>> ((16 : Int32).toUInt32 &&& Int32.toUInt32 31)).toInt32) - (((((P 7 5) * 1103515245) + 12345).toUInt32 >>> ((16 : Int32).toUInt32 &&& Int32.toUInt32 31)).toInt32) / x * x, up P 7 5 (((P 7 5) * 1103515245) + 12345)) = d5_draw P x := (by unfold d5_draw; rfl)
  exact f_mreti hx hb hr hlocks hI dX5_draw_25 () (congrArg (fun z => some (Value.int z.1)) hE) trivial (congrArg (fun z => MO dA am z.2 T G L kt tr) hE)
def d5_ended (P : Nat → Nat → Int32) (x : Int32) : Int32 × (Nat → Nat → Int32) := if x = (P 7 0) then (x, up (up P 7 2 ((P 7 2) + 1)) 7 3 ((P 7 3) + 1)) else (x, up (up P 7 2 ((P 7 2) + 1)) 7 3 ((P 7 3) + 0))
set_option maxHeartbeats 4000000 in
set_option maxRecDepth 100000 in
theorem m5_ended (l : Launch) (D : va_G) (dA : Nat → ClassId) (am : Nat → Nat) (P T : Nat → Nat → Int32) (G : Nat → Int32) (L : Nat → Nat → Int64) (kt tr : Option Nat) (sz : Nat)  (x : Int32)  : Met l yX5_ended (ws_ yX5_ended cX5_ended 2 (some .int)) ({ frames := 0, cells := 0, slots := 0, locals := 0 } : Room) (fPm D dA (MO dA am P T G L kt tr) sz [.ref (am 0), .int x]) (fQm (S := Unit) D (MO dA am P T G L kt tr) sz (fun _ => some (.int ((d5_ended P x).1))) (fun _ => True) (fun _ => MO dA am ((d5_ended P x).2) T G L kt tr)) 0 0 (fA (MO dA am P T G L kt tr) sz) := by
  refine Met.ofW (cc := cX5_ended) (maxL := 2) (ret := (some .int)) (by decide) rfl ?_
  intro p e s m args below meth c s₁ B hml hv
  obtain ⟨rfl, hsz, hP0, hG, hD0⟩ := hv
  have hK := hG.1
  have hx := B.exec
  have hb := B.bytes
  have hr := B.returns
  have hts := atoms_spec (ws := (ws_ yX5_ended cX5_ended 2 (some .int))) B.pre
  have hts : ∀ w ∈ lw_all, w.before _ s = true := fun w h => hts w (List.mem_cons_of_mem _ h)
  have hown : s.vm.findClass RX5 = some m.cls := findClass_of_methodNamed B.named
  have hlocks := B.notSynchronized
  subst hsz
  have hI := FI.start hP0 hD0
  have hl := lv_entry ([.ref (am 0), .int x]) (n := 2) (Nat.le_of_ble_eq_true rfl)
  rw [lg_entry_eq]
  generalize (lg_sl ([.ref (am 0), .int x]) ++ List.replicate (2 - (lg_sl ([.ref (am 0), .int x])).length) Slot.unset).toArray = ls at hl ⊢
  have hl : lv_has ls 2 [(0, .ref (am 0)), (1, .int x)] := hl
  refine lv_aload_n hx hb dX5_ended_0 rfl (lv_at hl 0 rfl) ?_
  refine lv_dup hx hb dX5_ended_1 rfl ?_
  refine f_get hx hb hts in_X5 hown hK hI.1 0 MO_0 rfl 18 (by decide) (hts _ q1528) (fun x h => h) rfl dX5_ended_2 ?_
  refine lv_iconst (v := 1) hx hb dX5_ended_5 (by decide) ?_
  refine lv_iadd hx hb dX5_ended_6 ?_
  refine f_put hx hb hts in_X5 tyX5 tyX5_ok nmX5 hown hK hI 0 MO_0 rfl 18 (by decide) (hts _ q1528) (fun x h => h) rfl (ttyX5_18) rfl rfl (Nat.le_of_ble_eq_true rfl) dX5_ended_7 (fun H locs hI => ?_)
  have hI := hI.congr MO_f18
  refine lv_aload_n hx hb dX5_ended_10 rfl (lv_at hl 0 rfl) ?_
  refine lv_dup hx hb dX5_ended_11 rfl ?_
  refine f_get hx hb hts in_X5 hown hK hI.1 0 MO_0 rfl 19 (by decide) (hts _ q1529) (fun x h => h) rfl dX5_ended_12 ?_
  refine lv_iload_n hx hb dX5_ended_15 rfl (lv_at hl 1 rfl) ?_
  refine lv_aload_n hx hb dX5_ended_16 rfl (lv_at hl 0 rfl) ?_
  refine f_get hx hb hts in_X5 hown hK hI.1 0 MO_0 rfl 9 (by decide) (hts _ q1519) (fun x h => h) rfl dX5_ended_17 ?_
  refine lv_icmp_ne (tgt := 27) hx hb dX5_ended_20 (by decide) (fun (c_20 : ¬ (x = (P 7 0))) => ?_) (fun (c_20 : x = (P 7 0)) => ?_)
  · refine lv_iconst (v := 0) hx hb dX5_ended_27 (by decide) ?_
    refine lv_iadd hx hb dX5_ended_28 ?_
    refine f_put hx hb hts in_X5 tyX5 tyX5_ok nmX5 hown hK hI 0 MO_0 rfl 19 (by decide) (hts _ q1529) (fun x h => h) rfl (ttyX5_19) rfl rfl (Nat.le_of_ble_eq_true rfl) dX5_ended_29 (fun H locs hI => ?_)
    have hI := hI.congr MO_f19
    refine lv_iload_n hx hb dX5_ended_32 rfl (lv_at hl 1 rfl) ?_
    have hE : (x, up (up P 7 2 ((P 7 2) + 1)) 7 3 ((P 7 3) + 0)) = d5_ended P x := (by unfold d5_ended; rw [if_neg c_20])
    exact f_mreti hx hb hr hlocks hI dX5_ended_33 () (congrArg (fun z => some (Value.int z.1)) hE) trivial (congrArg (fun z => MO dA am z.2 T G L kt tr) hE)
  · refine lv_iconst (v := 1) hx hb dX5_ended_23 (by decide) ?_
    refine lv_goto (tgt := 28) hx hb dX5_ended_24 (by decide) ?_
    refine lv_iadd hx hb dX5_ended_28 ?_
    refine f_put hx hb hts in_X5 tyX5 tyX5_ok nmX5 hown hK hI 0 MO_0 rfl 19 (by decide) (hts _ q1529) (fun x h => h) rfl (ttyX5_19) rfl rfl (Nat.le_of_ble_eq_true rfl) dX5_ended_29 (fun H locs hI => ?_)
    have hI := hI.congr MO_f19
    refine lv_iload_n hx hb dX5_ended_32 rfl (lv_at hl 1 rfl) ?_
    have hE : (x, up (up P 7 2 ((P 7 2) + 1)) 7 3 ((P 7 3) + 1)) = d5_ended P x := (by unfold d5_ended; rw [if_pos c_20])
    exact f_mreti hx hb hr hlocks hI dX5_ended_33 () (congrArg (fun z => some (Value.int z.1)) hE) trivial (congrArg (fun z => MO dA am z.2 T G L kt tr) hE)
def d5_seed (P : Nat → Nat → Int32) (x : Int32) : Int32 × (Nat → Nat → Int32) := (P 7 5, up P 7 5 x)
set_option maxHeartbeats 4000000 in
set_option maxRecDepth 100000 in
theorem m5_seed (l : Launch) (D : va_G) (dA : Nat → ClassId) (am : Nat → Nat) (P T : Nat → Nat → Int32) (G : Nat → Int32) (L : Nat → Nat → Int64) (kt tr : Option Nat) (sz : Nat)  (x : Int32)  : Met l yX5_seed (ws_ yX5_seed cX5_seed 3 (some .int)) ({ frames := 0, cells := 0, slots := 0, locals := 0 } : Room) (fPm D dA (MO dA am P T G L kt tr) sz [.ref (am 0), .int x]) (fQm (S := Unit) D (MO dA am P T G L kt tr) sz (fun _ => some (.int ((d5_seed P x).1))) (fun _ => True) (fun _ => MO dA am ((d5_seed P x).2) T G L kt tr)) 0 0 (fA (MO dA am P T G L kt tr) sz) := by
  refine Met.ofW (cc := cX5_seed) (maxL := 3) (ret := (some .int)) (by decide) rfl ?_
  intro p e s m args below meth c s₁ B hml hv
  obtain ⟨rfl, hsz, hP0, hG, hD0⟩ := hv
  have hK := hG.1
  have hx := B.exec
  have hb := B.bytes
  have hr := B.returns
  have hts := atoms_spec (ws := (ws_ yX5_seed cX5_seed 3 (some .int))) B.pre
  have hts : ∀ w ∈ lw_all, w.before _ s = true := fun w h => hts w (List.mem_cons_of_mem _ h)
  have hown : s.vm.findClass RX5 = some m.cls := findClass_of_methodNamed B.named
  have hlocks := B.notSynchronized
  subst hsz
  have hI := FI.start hP0 hD0
  have hl := lv_entry ([.ref (am 0), .int x]) (n := 3) (Nat.le_of_ble_eq_true rfl)
  rw [lg_entry_eq]
  generalize (lg_sl ([.ref (am 0), .int x]) ++ List.replicate (3 - (lg_sl ([.ref (am 0), .int x])).length) Slot.unset).toArray = ls at hl ⊢
  have hl : lv_has ls 3 [(0, .ref (am 0)), (1, .int x)] := hl
  refine lv_aload_n hx hb dX5_seed_0 rfl (lv_at hl 0 rfl) ?_
  refine f_get hx hb hts in_X5 hown hK hI.1 0 MO_0 rfl 21 (by decide) (hts _ q1531) (fun x h => h) rfl dX5_seed_1 ?_
  refine lv_istore_n (lv' := [(2, .int (P 7 5)), (0, .ref (am 0)), (1, .int x)]) hx hb dX5_seed_4 rfl hl (by decide) rfl (fun ls hl => ?_)
  refine lv_aload_n hx hb dX5_seed_5 rfl (lv_at hl 1 rfl) ?_
  refine lv_iload_n hx hb dX5_seed_6 rfl (lv_at hl 2 rfl) ?_
  refine f_put hx hb hts in_X5 tyX5 tyX5_ok nmX5 hown hK hI 0 MO_0 rfl 21 (by decide) (hts _ q1531) (fun x h => h) rfl (ttyX5_21) rfl rfl (Nat.le_of_ble_eq_true rfl) dX5_seed_7 (fun H locs hI => ?_)
  have hI := hI.congr MO_f21
  refine lv_iload_n hx hb dX5_seed_10 rfl (lv_at hl 0 rfl) ?_
  have hE : (P 7 5, up P 7 5 x) = d5_seed P x := (by unfold d5_seed; rfl)
  exact f_mreti hx hb hr hlocks hI dX5_seed_11 () (congrArg (fun z => some (Value.int z.1)) hE) trivial (congrArg (fun z => MO dA am z.2 T G L kt tr) hE)
def d5_week (P : Nat → Nat → Int32) (x : Int32) : Int32 × (Nat → Nat → Int32) := if (d5_in x.toInt64 0 200) = 0 then (-(nI 2), up P 13 2 (P 13 2 + 1)) else (d5_healed P (P 6 3) (x), up (up P 6 3 (d5_healed P (P 6 3) (x))) 7 4 ((P 7 4) + 1))
set_option maxHeartbeats 4000000 in
set_option maxRecDepth 100000 in
theorem m5_week (l : Launch) (D : va_G) (dA : Nat → ClassId) (am : Nat → Nat) (P T : Nat → Nat → Int32) (G : Nat → Int32) (L : Nat → Nat → Int64) (kt tr : Option Nat) (sz : Nat)  (x : Int32)  : Met l yX5_week (ws_ yX5_week cX5_week 2 (some .int)) ({ frames := 2, cells := 0, slots := 0, locals := 49 } : Room) (fPm D dA (MO dA am P T G L kt tr) sz [.ref (am 0), .int x]) (fQm (S := Unit) D (MO dA am P T G L kt tr) sz (fun _ => some (.int ((d5_week P x).1))) (fun _ => True) (fun _ => MO dA am ((d5_week P x).2) T G L kt tr)) 0 0 (fA (MO dA am P T G L kt tr) sz) := by
  refine Met.ofW (cc := cX5_week) (maxL := 2) (ret := (some .int)) (by decide) rfl ?_
  intro p e s m args below meth c s₁ B hml hv
  obtain ⟨rfl, hsz, hP0, hG, hD0⟩ := hv
  have hK := hG.1
  have hx := B.exec
  have hb := B.bytes
  have hr := B.returns
  have hts := atoms_spec (ws := (ws_ yX5_week cX5_week 2 (some .int))) B.pre
  have hts : ∀ w ∈ lw_all, w.before _ s = true := fun w h => hts w (List.mem_cons_of_mem _ h)
  have hown : s.vm.findClass RX5 = some m.cls := findClass_of_methodNamed B.named
  have hlocks := B.notSynchronized
  subst hsz
  have hI := FI.start hP0 hD0
  have hl := lv_entry ([.ref (am 0), .int x]) (n := 2) (Nat.le_of_ble_eq_true rfl)
  rw [lg_entry_eq]
  generalize (lg_sl ([.ref (am 0), .int x]) ++ List.replicate (2 - (lg_sl ([.ref (am 0), .int x])).length) Slot.unset).toArray = ls at hl ⊢
  have hl : lv_has ls 2 [(0, .ref (am 0)), (1, .int x)] := hl
  refine lv_iload_n hx hb dX5_week_0 rfl (lv_at hl 1 rfl) ?_
  refine lv_i2l (v := x.toInt64) hx hb dX5_week_1 rfl ?_
  refine lv_lconst (v := 0) hx hb dX5_week_2 (by decide) ?_
  refine lv_ldc2 (v := 200) hx hb hown (hts _ q1850) dX5_week_3 ?_
  refine f_pS hx hb hml hown hts (m5_in l D dA (MO dA am P T G L kt tr)  x.toInt64 0 200 ) (va_cwS 3 hts (lw_S q1624 q1625 q79 q1626) rfl rfl rfl (by decide +kernel) ⟨Nat.le_of_ble_eq_true rfl, Nat.le_of_ble_eq_true rfl⟩) hG hI.1 f_id rfl hl.1 rfl (Nat.le_of_ble_eq_true rfl) dX5_week_6 ⟨Nat.zero_le _, Nat.zero_le _⟩ ?_
  refine lv_if_ne (tgt := 19) hx hb dX5_week_9 (by decide) (fun c_9 => ?_) (fun c_9 => ?_)
  · obtain ⟨jx, h_jx, rfl⟩ := in_nat c_9 (n := 200) (by decide) (by decide)
    refine lv_aload_n hx hb dX5_week_19 rfl (lv_at hl 0 rfl) ?_
    refine f_get hx hb hts in_X5 hown hK hI.1 0 MO_0 rfl 17 (by decide) (hts _ q1527) (fun x h => h) rfl dX5_week_20 ?_
    refine lv_iconst (v := 3) hx hb dX5_week_23 (by decide) ?_
    refine lv_aload_n hx hb dX5_week_24 rfl (lv_at hl 0 rfl) ?_
    refine lv_aload_n hx hb dX5_week_25 rfl (lv_at hl 0 rfl) ?_
    refine f_get hx hb hts in_X5 hown hK hI.1 0 MO_0 rfl 17 (by decide) (hts _ q1527) (fun x h => h) rfl dX5_week_26 ?_
    refine lv_iconst (v := 3) hx hb dX5_week_29 (by decide) ?_
    refine f_iald hx hb hK hI.1 15 0 MO_15 rfl 3 rfl (by omega) (by decide) dX5_week_30 ?_
    refine lv_iload_n hx hb dX5_week_31 rfl (lv_at hl 1 rfl) ?_
    refine f_pV hx hb hml hown hts (m5_healed l D dA am P T G L kt tr  (P 6 3) (nI jx) ) (cwV 2 hts (lw_V q1970 q1972 qs68 q79 q1973) rfl rfl rfl (by decide +kernel) ⟨Nat.le_of_ble_eq_true rfl, Nat.le_of_ble_eq_true rfl⟩) hG hI.1 f_id MO_0 rfl rfl hl.1 rfl (Nat.le_of_ble_eq_true rfl) dX5_week_32 ⟨Nat.zero_le _, Nat.zero_le _⟩ ?_
    refine f_iast hx hb hK hI 15 0 MO_15 rfl 3 rfl (by omega) (by decide) dX5_week_35 (fun H locs hI => ?_)
    have hI := hI.congr MO_a15
    refine lv_aload_n hx hb dX5_week_36 rfl (lv_at hl 0 rfl) ?_
    refine lv_dup hx hb dX5_week_37 rfl ?_
    refine f_get hx hb hts in_X5 hown hK hI.1 0 MO_0 rfl 20 (by decide) (hts _ q1530) (fun x h => h) rfl dX5_week_38 ?_
    refine lv_iconst (v := 1) hx hb dX5_week_41 (by decide) ?_
    refine lv_iadd hx hb dX5_week_42 ?_
    refine f_put hx hb hts in_X5 tyX5 tyX5_ok nmX5 hown hK hI 0 MO_0 rfl 20 (by decide) (hts _ q1530) (fun x h => h) rfl (ttyX5_20) rfl rfl (Nat.le_of_ble_eq_true rfl) dX5_week_43 (fun H locs hI => ?_)
    have hI := hI.congr MO_f20
    refine lv_aload_n hx hb dX5_week_46 rfl (lv_at hl 0 rfl) ?_
    refine f_get hx hb hts in_X5 hown hK hI.1 0 MO_0 rfl 17 (by decide) (hts _ q1527) (fun x h => h) rfl dX5_week_47 ?_
    refine lv_iconst (v := 3) hx hb dX5_week_50 (by decide) ?_
    refine f_iald hx hb hK hI.1 15 0 MO_15 rfl 3 rfl (by omega) (by decide) dX5_week_51 ?_
    have hE : (d5_healed P (P 6 3) (nI jx), up (up P 6 3 (d5_healed P (P 6 3) (nI jx))) 7 4 ((P 7 4) + 1)) = d5_week P (nI jx) := (by unfold d5_week; (try simp only [cN_nI (show jx < 65536 by omega)]); rw [if_neg c_9])
    exact f_mreti hx hb hr hlocks hI dX5_week_52 () (congrArg (fun z => some (Value.int z.1)) hE) trivial (congrArg (fun z => MO dA am z.2 T G L kt tr) hE)
  · refine lv_aload_n hx hb dX5_week_12 rfl (lv_at hl 0 rfl) ?_
    refine lv_bipush (v := -2) hx hb dX5_week_13 (by decide) ?_
    refine f_mV0 hx hb hml hown hts (m5_refuse l D dA am P T G L kt tr _  2 (by omega)) (cwV 1 hts (lw_V q1629 q1631 qs32 q79 q1632) rfl rfl rfl (by decide +kernel) ⟨Nat.le_of_ble_eq_true rfl, Nat.le_of_ble_eq_true rfl⟩) hG hI MO_0 rfl rfl hl.1 rfl (Nat.le_of_ble_eq_true rfl) dX5_week_15 ⟨Nat.zero_le _, Nat.zero_le _⟩ (fun _ H locs _ hI => ?_)
    have hE : (-(nI 2), up P 13 2 (P 13 2 + 1)) = d5_week P x := (by unfold d5_week; rw [if_pos c_9])
    exact f_mreti hx hb hr hlocks hI dX5_week_18 () (congrArg (fun z => some (Value.int z.1)) hE) trivial (congrArg (fun z => MO dA am z.2 T G L kt tr) hE)
def g5_weeksBy_9 (P : Nat → Nat → Int32) (x : Int32)  : Nat → Nat → Int32 → Int32
  | 0, _, _ => 0
  | n + 1, k3, x2 => if 100 < (nI k3) then (-1) else (if x2 = 100 then nI k3 else g5_weeksBy_9 P x n (k3 + 1) (d5_healed P x2 x))
def d5_weeksBy (P : Nat → Nat → Int32) (x : Int32) : Int32 := g5_weeksBy_9 P x 102 0 (P 6 3)
set_option maxHeartbeats 4000000 in
set_option maxRecDepth 100000 in
theorem m5_weeksBy (l : Launch) (D : va_G) (dA : Nat → ClassId) (am : Nat → Nat) (P T : Nat → Nat → Int32) (G : Nat → Int32) (L : Nat → Nat → Int64) (kt tr : Option Nat)  (x : Int32)  : Met l yX5_weeksBy (ws_ yX5_weeksBy cX5_weeksBy 4 (some .int)) ({ frames := 2, cells := 0, slots := 0, locals := 49 } : Room) (fPc D dA (MO dA am P T G L kt tr) [.ref (am 0), .int x]) (fQp (.int (d5_weeksBy P x))) 0 0 (fun _ => False) := by
  refine Met.ofW (cc := cX5_weeksBy) (maxL := 4) (ret := (some .int)) (by decide) rfl ?_
  intro p e s m args below meth c s₁ B hml hv
  obtain ⟨rfl, hP, hG⟩ := hv
  have hK := hG.1
  have hx := B.exec
  have hb := B.bytes
  have hr := B.returns
  have hts := atoms_spec (ws := (ws_ yX5_weeksBy cX5_weeksBy 4 (some .int))) B.pre
  have hts : ∀ w ∈ lw_all, w.before _ s = true := fun w h => hts w (List.mem_cons_of_mem _ h)
  have hown : s.vm.findClass RX5 = some m.cls := findClass_of_methodNamed B.named
  have hlocks := B.notSynchronized
  have hl := lv_entry ([.ref (am 0), .int x]) (n := 4) (Nat.le_of_ble_eq_true rfl)
  rw [lg_entry_eq]
  generalize (lg_sl ([.ref (am 0), .int x]) ++ List.replicate (4 - (lg_sl ([.ref (am 0), .int x])).length) Slot.unset).toArray = ls at hl ⊢
  have hl : lv_has ls 4 [(0, .ref (am 0)), (1, .int x)] := hl
  refine lv_aload_n hx hb dX5_weeksBy_0 rfl (lv_at hl 0 rfl) ?_
  refine f_get hx hb hts in_X5 hown hK hP 0 MO_0 rfl 17 (by decide) (hts _ q1527) (fun x h => h) rfl dX5_weeksBy_1 ?_
  refine lv_iconst (v := 3) hx hb dX5_weeksBy_4 (by decide) ?_
  refine f_iald hx hb hK hP 15 0 MO_15 rfl 3 rfl (by omega) (by decide) dX5_weeksBy_5 ?_
  refine lv_istore_n (lv' := [(2, .int (P 6 3)), (0, .ref (am 0)), (1, .int x)]) hx hb dX5_weeksBy_6 rfl hl (by decide) rfl (fun ls hl => ?_)
  refine lv_iconst (v := 0) hx hb dX5_weeksBy_7 (by decide) ?_
  refine lv_istore_n (lv' := [(3, .int 0), (2, .int (P 6 3)), (0, .ref (am 0)), (1, .int x)]) hx hb dX5_weeksBy_8 rfl hl (by decide) rfl (fun ls hl => ?_)
  have lp_9 : ∀ (n9 : Nat) (k3 : Nat) (x2 : Int32), (k3 ≤ 101) → 101 - k3 < n9 → g5_weeksBy_9 P x n9 k3 x2 = d5_weeksBy P x → ∀ (ls : Array Slot), lv_has ls 4 [(3, .int (nI k3)), (2, .int x2), (0, .ref (am 0)), (1, .int x)] → W p l e (headSpec (ws_ yX5_weeksBy cX5_weeksBy 4 (some .int)) ({ frames := 2, cells := 0, slots := 0, locals := 49 } : Room)).room s m ([.ref (am 0), .int x] : List Value).toArray below meth c s.heap [] 0 0 (MQ below (fQp (.int (d5_weeksBy P x))) ([.ref (am 0), .int x] : List Value).toArray s 0 0 (fun _ => False)) (F0 m 9 ls []) := by
    intro n9
    induction n9 with
    | zero => intro k3 x2 hk hM9; exact absurd hM9 (Nat.not_lt_zero _)
    | succ n9 ih9 =>
      intro k3 x2 hk hM9 hV ls hl
      unfold g5_weeksBy_9 at hV
      refine lv_iload_n hx hb dX5_weeksBy_9 rfl (lv_at hl 0 rfl) ?_
      refine lv_bipush (v := 100) hx hb dX5_weeksBy_10 (by decide) ?_
      refine lv_icmp_gt (tgt := 36) hx hb dX5_weeksBy_12 (by decide) (fun c_12 => ?_) (fun c_12 => ?_)
      · have e_12 := (nat_lt (a := 100) (b := k3) rfl rfl (by omega) (by omega)).mp c_12
        refine lv_iconst (v := -1) hx hb dX5_weeksBy_36 (by decide) ?_
        exact f_reti hx hb hr hlocks dX5_weeksBy_37 (by have z := hV; rw [if_pos c_12] at z; exact z)
      · have e_12 := (not_congr (nat_lt (a := 100) (b := k3) rfl rfl (by omega) (by omega))).mp c_12
        refine lv_iload_n hx hb dX5_weeksBy_15 rfl (lv_at hl 1 rfl) ?_
        refine lv_bipush (v := 100) hx hb dX5_weeksBy_16 (by decide) ?_
        refine lv_icmp_ne (tgt := 23) hx hb dX5_weeksBy_18 (by decide) (fun c_18 => ?_) (fun c_18 => ?_)
        · refine lv_aload_n hx hb dX5_weeksBy_23 rfl (lv_at hl 2 rfl) ?_
          refine lv_iload_n hx hb dX5_weeksBy_24 rfl (lv_at hl 1 rfl) ?_
          refine lv_iload_n hx hb dX5_weeksBy_25 rfl (lv_at hl 3 rfl) ?_
          refine f_pV hx hb hml hown hts (m5_healed l D dA am P T G L kt tr  x2 x ) (cwV 2 hts (lw_V q1970 q1972 qs68 q79 q1973) rfl rfl rfl (by decide +kernel) ⟨Nat.le_of_ble_eq_true rfl, Nat.le_of_ble_eq_true rfl⟩) hG hP f_id MO_0 rfl rfl hl.1 rfl (Nat.le_of_ble_eq_true rfl) dX5_weeksBy_26 ⟨Nat.zero_le _, Nat.zero_le _⟩ ?_
          refine lv_istore_n (lv' := [(2, .int (d5_healed P x2 x)), (3, .int (nI k3)), (0, .ref (am 0)), (1, .int x)]) hx hb dX5_weeksBy_29 rfl hl (by decide) rfl (fun ls hl => ?_)
          refine lv_iinc (v := nI (k3 + 1)) (lv' := [(3, .int (nI (k3 + 1))), (2, .int (d5_healed P x2 x)), (0, .ref (am 0)), (1, .int x)]) hx hb dX5_weeksBy_30 hl (k := 1) rfl (nI_1 k3) (by decide) rfl (fun ls hl => ?_)
          refine lv_goto (tgt := 9) hx hb dX5_weeksBy_33 (by decide) ?_
          exact ih9 (k3 + 1) (d5_healed P x2 x) (by omega) (by omega) (by have z := hV; rw [if_neg c_12, if_neg c_18] at z; exact z) ls (lv_sub hl [0, 1, 2, 3] rfl)
        · refine lv_iload_n hx hb dX5_weeksBy_21 rfl (lv_at hl 0 rfl) ?_
          exact f_reti hx hb hr hlocks dX5_weeksBy_22 (by have z := hV; rw [if_neg c_12, if_pos c_18] at z; exact z)
  exact lp_9 102 0 (P 6 3) (by omega) (by omega) (by unfold d5_weeksBy; rfl) ls (lv_sub hl [0, 1, 2, 3] rfl)
def d5_weeks (P : Nat → Nat → Int32) (x : Int32) : Int32 × (Nat → Nat → Int32) := if (d5_in x.toInt64 0 200) = 0 then (-(nI 2), up P 13 2 (P 13 2 + 1)) else (d5_weeksBy P (x), P)
set_option maxHeartbeats 4000000 in
set_option maxRecDepth 100000 in
theorem m5_weeks (l : Launch) (D : va_G) (dA : Nat → ClassId) (am : Nat → Nat) (P T : Nat → Nat → Int32) (G : Nat → Int32) (L : Nat → Nat → Int64) (kt tr : Option Nat) (sz : Nat)  (x : Int32)  : Met l yX5_weeks (ws_ yX5_weeks cX5_weeks 2 (some .int)) ({ frames := 3, cells := 0, slots := 0, locals := 72 } : Room) (fPm D dA (MO dA am P T G L kt tr) sz [.ref (am 0), .int x]) (fQm (S := Unit) D (MO dA am P T G L kt tr) sz (fun _ => some (.int ((d5_weeks P x).1))) (fun _ => True) (fun _ => MO dA am ((d5_weeks P x).2) T G L kt tr)) 0 0 (fA (MO dA am P T G L kt tr) sz) := by
  refine Met.ofW (cc := cX5_weeks) (maxL := 2) (ret := (some .int)) (by decide) rfl ?_
  intro p e s m args below meth c s₁ B hml hv
  obtain ⟨rfl, hsz, hP0, hG, hD0⟩ := hv
  have hK := hG.1
  have hx := B.exec
  have hb := B.bytes
  have hr := B.returns
  have hts := atoms_spec (ws := (ws_ yX5_weeks cX5_weeks 2 (some .int))) B.pre
  have hts : ∀ w ∈ lw_all, w.before _ s = true := fun w h => hts w (List.mem_cons_of_mem _ h)
  have hown : s.vm.findClass RX5 = some m.cls := findClass_of_methodNamed B.named
  have hlocks := B.notSynchronized
  subst hsz
  have hI := FI.start hP0 hD0
  have hl := lv_entry ([.ref (am 0), .int x]) (n := 2) (Nat.le_of_ble_eq_true rfl)
  rw [lg_entry_eq]
  generalize (lg_sl ([.ref (am 0), .int x]) ++ List.replicate (2 - (lg_sl ([.ref (am 0), .int x])).length) Slot.unset).toArray = ls at hl ⊢
  have hl : lv_has ls 2 [(0, .ref (am 0)), (1, .int x)] := hl
  refine lv_iload_n hx hb dX5_weeks_0 rfl (lv_at hl 1 rfl) ?_
  refine lv_i2l (v := x.toInt64) hx hb dX5_weeks_1 rfl ?_
  refine lv_lconst (v := 0) hx hb dX5_weeks_2 (by decide) ?_
  refine lv_ldc2 (v := 200) hx hb hown (hts _ q1850) dX5_weeks_3 ?_
  refine f_pS hx hb hml hown hts (m5_in l D dA (MO dA am P T G L kt tr)  x.toInt64 0 200 ) (va_cwS 3 hts (lw_S q1624 q1625 q79 q1626) rfl rfl rfl (by decide +kernel) ⟨Nat.le_of_ble_eq_true rfl, Nat.le_of_ble_eq_true rfl⟩) hG hI.1 f_id rfl hl.1 rfl (Nat.le_of_ble_eq_true rfl) dX5_weeks_6 ⟨Nat.zero_le _, Nat.zero_le _⟩ ?_
  refine lv_if_eq (tgt := 20) hx hb dX5_weeks_9 (by decide) (fun c_9 => ?_) (fun c_9 => ?_)
  · refine lv_aload_n hx hb dX5_weeks_20 rfl (lv_at hl 0 rfl) ?_
    refine lv_bipush (v := -2) hx hb dX5_weeks_21 (by decide) ?_
    refine f_mV0 hx hb hml hown hts (m5_refuse l D dA am P T G L kt tr _  2 (by omega)) (cwV 1 hts (lw_V q1629 q1631 qs32 q79 q1632) rfl rfl rfl (by decide +kernel) ⟨Nat.le_of_ble_eq_true rfl, Nat.le_of_ble_eq_true rfl⟩) hG hI MO_0 rfl rfl hl.1 rfl (Nat.le_of_ble_eq_true rfl) dX5_weeks_23 ⟨Nat.zero_le _, Nat.zero_le _⟩ (fun _ H locs _ hI => ?_)
    have hE : (-(nI 2), up P 13 2 (P 13 2 + 1)) = d5_weeks P x := (by unfold d5_weeks; rw [if_pos c_9])
    exact f_mreti hx hb hr hlocks hI dX5_weeks_26 () (congrArg (fun z => some (Value.int z.1)) hE) trivial (congrArg (fun z => MO dA am z.2 T G L kt tr) hE)
  · obtain ⟨jx, h_jx, rfl⟩ := in_nat c_9 (n := 200) (by decide) (by decide)
    refine lv_aload_n hx hb dX5_weeks_12 rfl (lv_at hl 0 rfl) ?_
    refine lv_iload_n hx hb dX5_weeks_13 rfl (lv_at hl 1 rfl) ?_
    refine f_pV hx hb hml hown hts (m5_weeksBy l D dA am P T G L kt tr  (nI jx) ) (cwV 1 hts (lw_V q1978 q1980 qs69 q79 q1981) rfl rfl rfl (by decide +kernel) ⟨Nat.le_of_ble_eq_true rfl, Nat.le_of_ble_eq_true rfl⟩) hG hI.1 f_id MO_0 rfl rfl hl.1 rfl (Nat.le_of_ble_eq_true rfl) dX5_weeks_14 ⟨Nat.zero_le _, Nat.zero_le _⟩ ?_
    refine lv_goto (tgt := 26) hx hb dX5_weeks_17 (by decide) ?_
    have hE : (d5_weeksBy P (nI jx), P) = d5_weeks P (nI jx) := (by unfold d5_weeks; (try simp only [cN_nI (show jx < 65536 by omega)]); rw [if_neg c_9])
    exact f_mreti hx hb hr hlocks hI dX5_weeks_26 () (congrArg (fun z => some (Value.int z.1)) hE) trivial (congrArg (fun z => MO dA am z.2 T G L kt tr) hE)
def d5_doesWork (P : Nat → Nat → Int32) (x : Int32) (i : Nat) : Int32 × (Nat → Nat → Int32) := if x = 0 then (if (P 1 i) = 0 then (1, up P 1 i (vp_nar .boolean 1)) else (0, up P 1 i (vp_nar .boolean 1))) else (if x = 1 then (if (P 2 i) = 0 then (1, up P 2 i (vp_nar .boolean 1)) else (0, up P 2 i (vp_nar .boolean 1))) else (if x = 2 then (if (P 0 i) = 7 then (0, up P 0 i 7) else (1, up P 0 i 7)) else (if (P 3 i) = 0 then (0, up P 3 i (vp_nar .boolean 0)) else (1, up P 3 i (vp_nar .boolean 0)))))
set_option maxHeartbeats 4000000 in
set_option maxRecDepth 100000 in
theorem m5_doesWork (l : Launch) (D : va_G) (dA : Nat → ClassId) (am : Nat → Nat) (P T : Nat → Nat → Int32) (G : Nat → Int32) (L : Nat → Nat → Int64) (kt tr : Option Nat) (sz : Nat)  (x : Int32) (i : Nat) (h_i : i < 9) : Met l yX5_doesWork (ws_ yX5_doesWork cX5_doesWork 4 (some .boolean)) ({ frames := 0, cells := 0, slots := 0, locals := 0 } : Room) (fPm D dA (MO dA am P T G L kt tr) sz [.ref (am 0), .int x, .int (nI i)]) (fQm (S := Unit) D (MO dA am P T G L kt tr) sz (fun _ => some (.int ((d5_doesWork P x i).1))) (fun _ => True) (fun _ => MO dA am ((d5_doesWork P x i).2) T G L kt tr)) 0 0 (fA (MO dA am P T G L kt tr) sz) := by
  refine Met.ofW (cc := cX5_doesWork) (maxL := 4) (ret := (some .boolean)) (by decide) rfl ?_
  intro p e s m args below meth c s₁ B hml hv
  obtain ⟨rfl, hsz, hP0, hG, hD0⟩ := hv
  have hK := hG.1
  have hx := B.exec
  have hb := B.bytes
  have hr := B.returns
  have hts := atoms_spec (ws := (ws_ yX5_doesWork cX5_doesWork 4 (some .boolean))) B.pre
  have hts : ∀ w ∈ lw_all, w.before _ s = true := fun w h => hts w (List.mem_cons_of_mem _ h)
  have hown : s.vm.findClass RX5 = some m.cls := findClass_of_methodNamed B.named
  have hlocks := B.notSynchronized
  subst hsz
  have hI := FI.start hP0 hD0
  have hl := lv_entry ([.ref (am 0), .int x, .int (nI i)]) (n := 4) (Nat.le_of_ble_eq_true rfl)
  rw [lg_entry_eq]
  generalize (lg_sl ([.ref (am 0), .int x, .int (nI i)]) ++ List.replicate (4 - (lg_sl ([.ref (am 0), .int x, .int (nI i)])).length) Slot.unset).toArray = ls at hl ⊢
  have hl : lv_has ls 4 [(0, .ref (am 0)), (1, .int x), (2, .int (nI i))] := hl
  refine lv_iload_n hx hb dX5_doesWork_0 rfl (lv_at hl 1 rfl) ?_
  refine lv_if_ne (tgt := 13) hx hb dX5_doesWork_1 (by decide) (fun c_1 => ?_) (fun c_1 => ?_)
  · refine lv_iload_n hx hb dX5_doesWork_13 rfl (lv_at hl 1 rfl) ?_
    refine lv_iconst (v := 1) hx hb dX5_doesWork_14 (by decide) ?_
    refine lv_icmp_ne (tgt := 27) hx hb dX5_doesWork_15 (by decide) (fun c_15 => ?_) (fun c_15 => ?_)
    · refine lv_iload_n hx hb dX5_doesWork_27 rfl (lv_at hl 1 rfl) ?_
      refine lv_iconst (v := 2) hx hb dX5_doesWork_28 (by decide) ?_
      refine lv_icmp_ne (tgt := 51) hx hb dX5_doesWork_29 (by decide) (fun c_29 => ?_) (fun c_29 => ?_)
      · refine lv_aload_n hx hb dX5_doesWork_51 rfl (lv_at hl 0 rfl) ?_
        refine f_get hx hb hts in_X5 hown hK hI.1 0 MO_0 rfl 13 (by decide) (hts _ q1523) (fun x h => h) rfl dX5_doesWork_52 ?_
        refine lv_iload_n hx hb dX5_doesWork_55 rfl (lv_at hl 2 rfl) ?_
        refine f_zald hx hb hK hI.1 12 4 MO_12 rfl i rfl (by omega) (by decide) dX5_doesWork_56 ?_
        refine lv_if_ne (tgt := 64) hx hb dX5_doesWork_57 (by decide) (fun c_57 => ?_) (fun c_57 => ?_)
        · refine lv_iconst (v := 0) hx hb dX5_doesWork_64 (by decide) ?_
          refine lv_istore_n (lv' := [(3, .int 0), (0, .ref (am 0)), (1, .int x), (2, .int (nI i))]) hx hb dX5_doesWork_65 rfl hl (by decide) rfl (fun ls hl => ?_)
          refine lv_iload_n hx hb dX5_doesWork_66 rfl (lv_at hl 2 rfl) ?_
          refine lv_if_ne (tgt := 80) hx hb dX5_doesWork_67 (by decide) (fun _ => ?_) (fun h => absurd h c_1)
          refine lv_iload_n hx hb dX5_doesWork_80 rfl (lv_at hl 2 rfl) ?_
          refine lv_iconst (v := 1) hx hb dX5_doesWork_81 (by decide) ?_
          refine lv_icmp_ne (tgt := 95) hx hb dX5_doesWork_82 (by decide) (fun _ => ?_) (fun h => absurd h c_15)
          refine lv_iload_n hx hb dX5_doesWork_95 rfl (lv_at hl 2 rfl) ?_
          refine lv_iconst (v := 2) hx hb dX5_doesWork_96 (by decide) ?_
          refine lv_icmp_ne (tgt := 111) hx hb dX5_doesWork_97 (by decide) (fun _ => ?_) (fun h => absurd h c_29)
          refine lv_aload_n hx hb dX5_doesWork_111 rfl (lv_at hl 1 rfl) ?_
          refine f_get hx hb hts in_X5 hown hK hI.1 0 MO_0 rfl 13 (by decide) (hts _ q1523) (fun x h => h) rfl dX5_doesWork_112 ?_
          refine lv_iload_n hx hb dX5_doesWork_115 rfl (lv_at hl 3 rfl) ?_
          refine lv_iconst (v := 0) hx hb dX5_doesWork_116 (by decide) ?_
          refine f_zast hx hb hK hI 12 4 MO_12 rfl i rfl (by omega) (by decide) dX5_doesWork_117 (fun H locs hI => ?_)
          have hI := hI.congr MO_a12
          refine lv_iload_n hx hb dX5_doesWork_118 rfl (lv_at hl 0 rfl) ?_
          refine lv_if_ne (tgt := 126) hx hb dX5_doesWork_119 (by decide) (fun c => absurd c (by decide)) (fun _ => ?_)
          refine lv_iconst (v := 1) hx hb dX5_doesWork_122 (by decide) ?_
          refine lv_goto (tgt := 127) hx hb dX5_doesWork_123 (by decide) ?_
          have hE : (1, up P 3 i (vp_nar .boolean 0)) = d5_doesWork P x i := (by unfold d5_doesWork; rw [if_neg c_1, if_neg c_15, if_neg c_29, if_neg c_57])
          exact f_mretz hx hb hr hlocks hI dX5_doesWork_127 rfl () (congrArg (fun z => some (Value.int z.1)) hE) trivial (congrArg (fun z => MO dA am z.2 T G L kt tr) hE)
        · refine lv_iconst (v := 1) hx hb dX5_doesWork_60 (by decide) ?_
          refine lv_goto (tgt := 65) hx hb dX5_doesWork_61 (by decide) ?_
          refine lv_istore_n (lv' := [(3, .int 1), (0, .ref (am 0)), (1, .int x), (2, .int (nI i))]) hx hb dX5_doesWork_65 rfl hl (by decide) rfl (fun ls hl => ?_)
          refine lv_iload_n hx hb dX5_doesWork_66 rfl (lv_at hl 2 rfl) ?_
          refine lv_if_ne (tgt := 80) hx hb dX5_doesWork_67 (by decide) (fun _ => ?_) (fun h => absurd h c_1)
          refine lv_iload_n hx hb dX5_doesWork_80 rfl (lv_at hl 2 rfl) ?_
          refine lv_iconst (v := 1) hx hb dX5_doesWork_81 (by decide) ?_
          refine lv_icmp_ne (tgt := 95) hx hb dX5_doesWork_82 (by decide) (fun _ => ?_) (fun h => absurd h c_15)
          refine lv_iload_n hx hb dX5_doesWork_95 rfl (lv_at hl 2 rfl) ?_
          refine lv_iconst (v := 2) hx hb dX5_doesWork_96 (by decide) ?_
          refine lv_icmp_ne (tgt := 111) hx hb dX5_doesWork_97 (by decide) (fun _ => ?_) (fun h => absurd h c_29)
          refine lv_aload_n hx hb dX5_doesWork_111 rfl (lv_at hl 1 rfl) ?_
          refine f_get hx hb hts in_X5 hown hK hI.1 0 MO_0 rfl 13 (by decide) (hts _ q1523) (fun x h => h) rfl dX5_doesWork_112 ?_
          refine lv_iload_n hx hb dX5_doesWork_115 rfl (lv_at hl 3 rfl) ?_
          refine lv_iconst (v := 0) hx hb dX5_doesWork_116 (by decide) ?_
          refine f_zast hx hb hK hI 12 4 MO_12 rfl i rfl (by omega) (by decide) dX5_doesWork_117 (fun H locs hI => ?_)
          have hI := hI.congr MO_a12
          refine lv_iload_n hx hb dX5_doesWork_118 rfl (lv_at hl 0 rfl) ?_
          refine lv_if_ne (tgt := 126) hx hb dX5_doesWork_119 (by decide) (fun _ => ?_) (fun c => absurd c (by decide))
          refine lv_iconst (v := 0) hx hb dX5_doesWork_126 (by decide) ?_
          have hE : (0, up P 3 i (vp_nar .boolean 0)) = d5_doesWork P x i := (by unfold d5_doesWork; rw [if_neg c_1, if_neg c_15, if_neg c_29, if_pos c_57])
          exact f_mretz hx hb hr hlocks hI dX5_doesWork_127 rfl () (congrArg (fun z => some (Value.int z.1)) hE) trivial (congrArg (fun z => MO dA am z.2 T G L kt tr) hE)
      · refine lv_aload_n hx hb dX5_doesWork_32 rfl (lv_at hl 0 rfl) ?_
        refine f_get hx hb hts in_X5 hown hK hI.1 0 MO_0 rfl 10 (by decide) (hts _ q1520) (fun x h => h) rfl dX5_doesWork_33 ?_
        refine lv_iload_n hx hb dX5_doesWork_36 rfl (lv_at hl 2 rfl) ?_
        refine f_iald hx hb hK hI.1 9 0 MO_9 rfl i rfl (by omega) (by decide) dX5_doesWork_37 ?_
        refine lv_bipush (v := 7) hx hb dX5_doesWork_38 (by decide) ?_
        refine lv_icmp_ne (tgt := 47) hx hb dX5_doesWork_40 (by decide) (fun c_40 => ?_) (fun c_40 => ?_)
        · refine lv_iconst (v := 0) hx hb dX5_doesWork_47 (by decide) ?_
          refine lv_goto (tgt := 65) hx hb dX5_doesWork_48 (by decide) ?_
          refine lv_istore_n (lv' := [(3, .int 0), (0, .ref (am 0)), (1, .int x), (2, .int (nI i))]) hx hb dX5_doesWork_65 rfl hl (by decide) rfl (fun ls hl => ?_)
          refine lv_iload_n hx hb dX5_doesWork_66 rfl (lv_at hl 2 rfl) ?_
          refine lv_if_ne (tgt := 80) hx hb dX5_doesWork_67 (by decide) (fun _ => ?_) (fun h => absurd h c_1)
          refine lv_iload_n hx hb dX5_doesWork_80 rfl (lv_at hl 2 rfl) ?_
          refine lv_iconst (v := 1) hx hb dX5_doesWork_81 (by decide) ?_
          refine lv_icmp_ne (tgt := 95) hx hb dX5_doesWork_82 (by decide) (fun _ => ?_) (fun h => absurd h c_15)
          refine lv_iload_n hx hb dX5_doesWork_95 rfl (lv_at hl 2 rfl) ?_
          refine lv_iconst (v := 2) hx hb dX5_doesWork_96 (by decide) ?_
          refine lv_icmp_ne (tgt := 111) hx hb dX5_doesWork_97 (by decide) (fun h => absurd c_29 h) (fun _ => ?_)
          refine lv_aload_n hx hb dX5_doesWork_100 rfl (lv_at hl 1 rfl) ?_
          refine f_get hx hb hts in_X5 hown hK hI.1 0 MO_0 rfl 10 (by decide) (hts _ q1520) (fun x h => h) rfl dX5_doesWork_101 ?_
          refine lv_iload_n hx hb dX5_doesWork_104 rfl (lv_at hl 3 rfl) ?_
          refine lv_bipush (v := 7) hx hb dX5_doesWork_105 (by decide) ?_
          refine f_iast hx hb hK hI 9 0 MO_9 rfl i rfl (by omega) (by decide) dX5_doesWork_107 (fun H locs hI => ?_)
          have hI := hI.congr MO_a9
          refine lv_goto (tgt := 118) hx hb dX5_doesWork_108 (by decide) ?_
          refine lv_iload_n hx hb dX5_doesWork_118 rfl (lv_at hl 0 rfl) ?_
          refine lv_if_ne (tgt := 126) hx hb dX5_doesWork_119 (by decide) (fun c => absurd c (by decide)) (fun _ => ?_)
          refine lv_iconst (v := 1) hx hb dX5_doesWork_122 (by decide) ?_
          refine lv_goto (tgt := 127) hx hb dX5_doesWork_123 (by decide) ?_
          have hE : (1, up P 0 i 7) = d5_doesWork P x i := (by unfold d5_doesWork; rw [if_neg c_1, if_neg c_15, if_pos c_29, if_neg c_40])
          exact f_mretz hx hb hr hlocks hI dX5_doesWork_127 rfl () (congrArg (fun z => some (Value.int z.1)) hE) trivial (congrArg (fun z => MO dA am z.2 T G L kt tr) hE)
        · refine lv_iconst (v := 1) hx hb dX5_doesWork_43 (by decide) ?_
          refine lv_goto (tgt := 65) hx hb dX5_doesWork_44 (by decide) ?_
          refine lv_istore_n (lv' := [(3, .int 1), (0, .ref (am 0)), (1, .int x), (2, .int (nI i))]) hx hb dX5_doesWork_65 rfl hl (by decide) rfl (fun ls hl => ?_)
          refine lv_iload_n hx hb dX5_doesWork_66 rfl (lv_at hl 2 rfl) ?_
          refine lv_if_ne (tgt := 80) hx hb dX5_doesWork_67 (by decide) (fun _ => ?_) (fun h => absurd h c_1)
          refine lv_iload_n hx hb dX5_doesWork_80 rfl (lv_at hl 2 rfl) ?_
          refine lv_iconst (v := 1) hx hb dX5_doesWork_81 (by decide) ?_
          refine lv_icmp_ne (tgt := 95) hx hb dX5_doesWork_82 (by decide) (fun _ => ?_) (fun h => absurd h c_15)
          refine lv_iload_n hx hb dX5_doesWork_95 rfl (lv_at hl 2 rfl) ?_
          refine lv_iconst (v := 2) hx hb dX5_doesWork_96 (by decide) ?_
          refine lv_icmp_ne (tgt := 111) hx hb dX5_doesWork_97 (by decide) (fun h => absurd c_29 h) (fun _ => ?_)
          refine lv_aload_n hx hb dX5_doesWork_100 rfl (lv_at hl 1 rfl) ?_
          refine f_get hx hb hts in_X5 hown hK hI.1 0 MO_0 rfl 10 (by decide) (hts _ q1520) (fun x h => h) rfl dX5_doesWork_101 ?_
          refine lv_iload_n hx hb dX5_doesWork_104 rfl (lv_at hl 3 rfl) ?_
          refine lv_bipush (v := 7) hx hb dX5_doesWork_105 (by decide) ?_
          refine f_iast hx hb hK hI 9 0 MO_9 rfl i rfl (by omega) (by decide) dX5_doesWork_107 (fun H locs hI => ?_)
          have hI := hI.congr MO_a9
          refine lv_goto (tgt := 118) hx hb dX5_doesWork_108 (by decide) ?_
          refine lv_iload_n hx hb dX5_doesWork_118 rfl (lv_at hl 0 rfl) ?_
          refine lv_if_ne (tgt := 126) hx hb dX5_doesWork_119 (by decide) (fun _ => ?_) (fun c => absurd c (by decide))
          refine lv_iconst (v := 0) hx hb dX5_doesWork_126 (by decide) ?_
          have hE : (0, up P 0 i 7) = d5_doesWork P x i := (by unfold d5_doesWork; rw [if_neg c_1, if_neg c_15, if_pos c_29, if_pos c_40])
          exact f_mretz hx hb hr hlocks hI dX5_doesWork_127 rfl () (congrArg (fun z => some (Value.int z.1)) hE) trivial (congrArg (fun z => MO dA am z.2 T G L kt tr) hE)
    · refine lv_aload_n hx hb dX5_doesWork_18 rfl (lv_at hl 0 rfl) ?_
      refine f_get hx hb hts in_X5 hown hK hI.1 0 MO_0 rfl 12 (by decide) (hts _ q1522) (fun x h => h) rfl dX5_doesWork_19 ?_
      refine lv_iload_n hx hb dX5_doesWork_22 rfl (lv_at hl 2 rfl) ?_
      refine f_zald hx hb hK hI.1 11 4 MO_11 rfl i rfl (by omega) (by decide) dX5_doesWork_23 ?_
      refine lv_goto (tgt := 65) hx hb dX5_doesWork_24 (by decide) ?_
      refine lv_istore_n (lv' := [(3, .int (P 2 i)), (0, .ref (am 0)), (1, .int x), (2, .int (nI i))]) hx hb dX5_doesWork_65 rfl hl (by decide) rfl (fun ls hl => ?_)
      refine lv_iload_n hx hb dX5_doesWork_66 rfl (lv_at hl 2 rfl) ?_
      refine lv_if_ne (tgt := 80) hx hb dX5_doesWork_67 (by decide) (fun _ => ?_) (fun h => absurd h c_1)
      refine lv_iload_n hx hb dX5_doesWork_80 rfl (lv_at hl 2 rfl) ?_
      refine lv_iconst (v := 1) hx hb dX5_doesWork_81 (by decide) ?_
      refine lv_icmp_ne (tgt := 95) hx hb dX5_doesWork_82 (by decide) (fun h => absurd c_15 h) (fun _ => ?_)
      refine lv_aload_n hx hb dX5_doesWork_85 rfl (lv_at hl 1 rfl) ?_
      refine f_get hx hb hts in_X5 hown hK hI.1 0 MO_0 rfl 12 (by decide) (hts _ q1522) (fun x h => h) rfl dX5_doesWork_86 ?_
      refine lv_iload_n hx hb dX5_doesWork_89 rfl (lv_at hl 3 rfl) ?_
      refine lv_iconst (v := 1) hx hb dX5_doesWork_90 (by decide) ?_
      refine f_zast hx hb hK hI 11 4 MO_11 rfl i rfl (by omega) (by decide) dX5_doesWork_91 (fun H locs hI => ?_)
      have hI := hI.congr MO_a11
      refine lv_goto (tgt := 118) hx hb dX5_doesWork_92 (by decide) ?_
      refine lv_iload_n hx hb dX5_doesWork_118 rfl (lv_at hl 0 rfl) ?_
      refine lv_if_ne (tgt := 126) hx hb dX5_doesWork_119 (by decide) (fun (c_119 : ¬ ((P 2 i) = 0)) => ?_) (fun (c_119 : (P 2 i) = 0) => ?_)
      · refine lv_iconst (v := 0) hx hb dX5_doesWork_126 (by decide) ?_
        have hE : (0, up P 2 i (vp_nar .boolean 1)) = d5_doesWork P x i := (by unfold d5_doesWork; rw [if_neg c_1, if_pos c_15, if_neg c_119])
        exact f_mretz hx hb hr hlocks hI dX5_doesWork_127 rfl () (congrArg (fun z => some (Value.int z.1)) hE) trivial (congrArg (fun z => MO dA am z.2 T G L kt tr) hE)
      · refine lv_iconst (v := 1) hx hb dX5_doesWork_122 (by decide) ?_
        refine lv_goto (tgt := 127) hx hb dX5_doesWork_123 (by decide) ?_
        have hE : (1, up P 2 i (vp_nar .boolean 1)) = d5_doesWork P x i := (by unfold d5_doesWork; rw [if_neg c_1, if_pos c_15, if_pos c_119])
        exact f_mretz hx hb hr hlocks hI dX5_doesWork_127 rfl () (congrArg (fun z => some (Value.int z.1)) hE) trivial (congrArg (fun z => MO dA am z.2 T G L kt tr) hE)
  · refine lv_aload_n hx hb dX5_doesWork_4 rfl (lv_at hl 0 rfl) ?_
    refine f_get hx hb hts in_X5 hown hK hI.1 0 MO_0 rfl 11 (by decide) (hts _ q1521) (fun x h => h) rfl dX5_doesWork_5 ?_
    refine lv_iload_n hx hb dX5_doesWork_8 rfl (lv_at hl 2 rfl) ?_
    refine f_zald hx hb hK hI.1 10 4 MO_10 rfl i rfl (by omega) (by decide) dX5_doesWork_9 ?_
    refine lv_goto (tgt := 65) hx hb dX5_doesWork_10 (by decide) ?_
    refine lv_istore_n (lv' := [(3, .int (P 1 i)), (0, .ref (am 0)), (1, .int x), (2, .int (nI i))]) hx hb dX5_doesWork_65 rfl hl (by decide) rfl (fun ls hl => ?_)
    refine lv_iload_n hx hb dX5_doesWork_66 rfl (lv_at hl 2 rfl) ?_
    refine lv_if_ne (tgt := 80) hx hb dX5_doesWork_67 (by decide) (fun h => absurd c_1 h) (fun _ => ?_)
    refine lv_aload_n hx hb dX5_doesWork_70 rfl (lv_at hl 1 rfl) ?_
    refine f_get hx hb hts in_X5 hown hK hI.1 0 MO_0 rfl 11 (by decide) (hts _ q1521) (fun x h => h) rfl dX5_doesWork_71 ?_
    refine lv_iload_n hx hb dX5_doesWork_74 rfl (lv_at hl 3 rfl) ?_
    refine lv_iconst (v := 1) hx hb dX5_doesWork_75 (by decide) ?_
    refine f_zast hx hb hK hI 10 4 MO_10 rfl i rfl (by omega) (by decide) dX5_doesWork_76 (fun H locs hI => ?_)
    have hI := hI.congr MO_a10
    refine lv_goto (tgt := 118) hx hb dX5_doesWork_77 (by decide) ?_
    refine lv_iload_n hx hb dX5_doesWork_118 rfl (lv_at hl 0 rfl) ?_
    refine lv_if_ne (tgt := 126) hx hb dX5_doesWork_119 (by decide) (fun (c_119 : ¬ ((P 1 i) = 0)) => ?_) (fun (c_119 : (P 1 i) = 0) => ?_)
    · refine lv_iconst (v := 0) hx hb dX5_doesWork_126 (by decide) ?_
      have hE : (0, up P 1 i (vp_nar .boolean 1)) = d5_doesWork P x i := (by unfold d5_doesWork; rw [if_pos c_1, if_neg c_119])
      exact f_mretz hx hb hr hlocks hI dX5_doesWork_127 rfl () (congrArg (fun z => some (Value.int z.1)) hE) trivial (congrArg (fun z => MO dA am z.2 T G L kt tr) hE)
    · refine lv_iconst (v := 1) hx hb dX5_doesWork_122 (by decide) ?_
      refine lv_goto (tgt := 127) hx hb dX5_doesWork_123 (by decide) ?_
      have hE : (1, up P 1 i (vp_nar .boolean 1)) = d5_doesWork P x i := (by unfold d5_doesWork; rw [if_pos c_1, if_pos c_119])
      exact f_mretz hx hb hr hlocks hI dX5_doesWork_127 rfl () (congrArg (fun z => some (Value.int z.1)) hE) trivial (congrArg (fun z => MO dA am z.2 T G L kt tr) hE)
theorem z5_doesWork {P : Nat → Nat → Int32} {x : Int32} {i : Nat} : narrow .boolean (.int ((d5_doesWork P x i).1)) = .int ((d5_doesWork P x i).1) := by
  unfold d5_doesWork
  split
  · split
    · first | rfl | (dsimp only; rfl)
    · first | rfl | (dsimp only; rfl)
  · split
    · split
      · first | rfl | (dsimp only; rfl)
      · first | rfl | (dsimp only; rfl)
    · split
      · split
        · first | rfl | (dsimp only; rfl)
        · first | rfl | (dsimp only; rfl)
      · split
        · first | rfl | (dsimp only; rfl)
        · first | rfl | (dsimp only; rfl)
def d5_done (P : Nat → Nat → Int32) (x : Int32) (y : Int32) : Int32 × (Nat → Nat → Int32) := if (d5_in x.toInt64 0 3) = 0 then (-(nI 2), up P 13 2 (P 13 2 + 1)) else (if (d5_isStep P y) = 0 then (-(nI 2), up P 13 2 (P 13 2 + 1)) else (if ((d5_doesWork P (x) (cN y)).1) = 0 then (0, (d5_doesWork P (x) (cN y)).2) else (1, (d5_doesWork P (x) (cN y)).2)))
set_option maxHeartbeats 4000000 in
set_option maxRecDepth 100000 in
theorem m5_done (l : Launch) (D : va_G) (dA : Nat → ClassId) (am : Nat → Nat) (P T : Nat → Nat → Int32) (G : Nat → Int32) (L : Nat → Nat → Int64) (kt tr : Option Nat) (sz : Nat) (S : Nat) (x : Int32) (y : Int32) (hst : P 7 0 = nI S) (hS : S ≤ 9) : Met l yX5_done (ws_ yX5_done cX5_done 3 (some .int)) ({ frames := 2, cells := 0, slots := 0, locals := 46 } : Room) (fPm D dA (MO dA am P T G L kt tr) sz [.ref (am 0), .int x, .int y]) (fQm (S := Unit) D (MO dA am P T G L kt tr) sz (fun _ => some (.int ((d5_done P x y).1))) (fun _ => True) (fun _ => MO dA am ((d5_done P x y).2) T G L kt tr)) 0 0 (fA (MO dA am P T G L kt tr) sz) := by
  refine Met.ofW (cc := cX5_done) (maxL := 3) (ret := (some .int)) (by decide) rfl ?_
  intro p e s m args below meth c s₁ B hml hv
  obtain ⟨rfl, hsz, hP0, hG, hD0⟩ := hv
  have hK := hG.1
  have hx := B.exec
  have hb := B.bytes
  have hr := B.returns
  have hts := atoms_spec (ws := (ws_ yX5_done cX5_done 3 (some .int))) B.pre
  have hts : ∀ w ∈ lw_all, w.before _ s = true := fun w h => hts w (List.mem_cons_of_mem _ h)
  have hown : s.vm.findClass RX5 = some m.cls := findClass_of_methodNamed B.named
  have hlocks := B.notSynchronized
  subst hsz
  have hI := FI.start hP0 hD0
  have hl := lv_entry ([.ref (am 0), .int x, .int y]) (n := 3) (Nat.le_of_ble_eq_true rfl)
  rw [lg_entry_eq]
  generalize (lg_sl ([.ref (am 0), .int x, .int y]) ++ List.replicate (3 - (lg_sl ([.ref (am 0), .int x, .int y])).length) Slot.unset).toArray = ls at hl ⊢
  have hl : lv_has ls 3 [(0, .ref (am 0)), (1, .int x), (2, .int y)] := hl
  refine lv_iload_n hx hb dX5_done_0 rfl (lv_at hl 1 rfl) ?_
  refine lv_i2l (v := x.toInt64) hx hb dX5_done_1 rfl ?_
  refine lv_lconst (v := 0) hx hb dX5_done_2 (by decide) ?_
  refine lv_ldc2 (v := 3) hx hb hown (hts _ q1829) dX5_done_3 ?_
  refine f_pS hx hb hml hown hts (m5_in l D dA (MO dA am P T G L kt tr)  x.toInt64 0 3 ) (va_cwS 3 hts (lw_S q1624 q1625 q79 q1626) rfl rfl rfl (by decide +kernel) ⟨Nat.le_of_ble_eq_true rfl, Nat.le_of_ble_eq_true rfl⟩) hG hI.1 f_id rfl hl.1 rfl (Nat.le_of_ble_eq_true rfl) dX5_done_6 ⟨Nat.zero_le _, Nat.zero_le _⟩ ?_
  refine lv_if_eq (tgt := 20) hx hb dX5_done_9 (by decide) (fun c_9 => ?_) (fun c_9 => ?_)
  · refine lv_aload_n hx hb dX5_done_20 rfl (lv_at hl 0 rfl) ?_
    refine lv_bipush (v := -2) hx hb dX5_done_21 (by decide) ?_
    refine f_mV0 hx hb hml hown hts (m5_refuse l D dA am P T G L kt tr _  2 (by omega)) (cwV 1 hts (lw_V q1629 q1631 qs32 q79 q1632) rfl rfl rfl (by decide +kernel) ⟨Nat.le_of_ble_eq_true rfl, Nat.le_of_ble_eq_true rfl⟩) hG hI MO_0 rfl rfl hl.1 rfl (Nat.le_of_ble_eq_true rfl) dX5_done_23 ⟨Nat.zero_le _, Nat.zero_le _⟩ (fun _ H locs _ hI => ?_)
    have hE : (-(nI 2), up P 13 2 (P 13 2 + 1)) = d5_done P x y := (by unfold d5_done; rw [if_pos c_9])
    exact f_mreti hx hb hr hlocks hI dX5_done_26 () (congrArg (fun z => some (Value.int z.1)) hE) trivial (congrArg (fun z => MO dA am z.2 T G L kt tr) hE)
  · obtain ⟨jx, h_jx, rfl⟩ := in_nat c_9 (n := 3) (by decide) (by decide)
    refine lv_aload_n hx hb dX5_done_12 rfl (lv_at hl 0 rfl) ?_
    refine lv_iload_n hx hb dX5_done_13 rfl (lv_at hl 2 rfl) ?_
    refine f_pV hx hb hml hown hts (m5_isStep l D dA am P T G L kt tr  y ) (cwV 1 hts (lw_V q1715 q1717 qs41 q79 q1718) rfl rfl rfl (by decide +kernel) ⟨Nat.le_of_ble_eq_true rfl, Nat.le_of_ble_eq_true rfl⟩) hG hI.1 f_id MO_0 rfl rfl hl.1 rfl (Nat.le_of_ble_eq_true rfl) dX5_done_14 ⟨Nat.zero_le _, Nat.zero_le _⟩ ?_
    refine lv_if_ne (tgt := 27) hx hb dX5_done_17 (by decide) (fun c_17 => ?_) (fun c_17 => ?_)
    · obtain ⟨jy, h_jy, rfl⟩ := isStep_nat c_17 hst hS
      refine lv_aload_n hx hb dX5_done_27 rfl (lv_at hl 0 rfl) ?_
      refine lv_iload_n hx hb dX5_done_28 rfl (lv_at hl 1 rfl) ?_
      refine lv_iload_n hx hb dX5_done_29 rfl (lv_at hl 2 rfl) ?_
      refine f_mV0 hx hb hml hown hts (m5_doesWork l D dA am P T G L kt tr _  (nI jx) jy (by omega)) (cwV 2 hts (lw_V q1935 q1937 qs65 q79 q1938) rfl rfl rfl (by decide +kernel) ⟨Nat.le_of_ble_eq_true rfl, Nat.le_of_ble_eq_true rfl⟩) hG hI MO_0 rfl rfl hl.1 rfl (Nat.le_of_ble_eq_true rfl) dX5_done_30 ⟨Nat.zero_le _, Nat.zero_le _⟩ (fun _ H locs _ hI => ?_)
      refine lv_if_eq (tgt := 40) hx hb dX5_done_33 (by decide) (fun (c_33 : ((d5_doesWork P (nI jx) jy).1) = 0) => ?_) (fun (c_33 : ¬ (((d5_doesWork P (nI jx) jy).1) = 0)) => ?_)
      · refine lv_iconst (v := 0) hx hb dX5_done_40 (by decide) ?_
        have hE : (0, (d5_doesWork P (nI jx) jy).2) = d5_done P (nI jx) (nI jy) := (by unfold d5_done; (try simp only [cN_nI (show jx < 65536 by omega), cN_nI (show jy < 65536 by omega)]); rw [if_neg c_9, if_neg c_17, if_pos c_33])
        exact f_mreti hx hb hr hlocks hI dX5_done_41 () (congrArg (fun z => some (Value.int z.1)) hE) trivial (congrArg (fun z => MO dA am z.2 T G L kt tr) hE)
      · refine lv_iconst (v := 1) hx hb dX5_done_36 (by decide) ?_
        refine lv_goto (tgt := 41) hx hb dX5_done_37 (by decide) ?_
        have hE : (1, (d5_doesWork P (nI jx) jy).2) = d5_done P (nI jx) (nI jy) := (by unfold d5_done; (try simp only [cN_nI (show jx < 65536 by omega), cN_nI (show jy < 65536 by omega)]); rw [if_neg c_9, if_neg c_17, if_neg c_33])
        exact f_mreti hx hb hr hlocks hI dX5_done_41 () (congrArg (fun z => some (Value.int z.1)) hE) trivial (congrArg (fun z => MO dA am z.2 T G L kt tr) hE)
    · refine lv_aload_n hx hb dX5_done_20 rfl (lv_at hl 0 rfl) ?_
      refine lv_bipush (v := -2) hx hb dX5_done_21 (by decide) ?_
      refine f_mV0 hx hb hml hown hts (m5_refuse l D dA am P T G L kt tr _  2 (by omega)) (cwV 1 hts (lw_V q1629 q1631 qs32 q79 q1632) rfl rfl rfl (by decide +kernel) ⟨Nat.le_of_ble_eq_true rfl, Nat.le_of_ble_eq_true rfl⟩) hG hI MO_0 rfl rfl hl.1 rfl (Nat.le_of_ble_eq_true rfl) dX5_done_23 ⟨Nat.zero_le _, Nat.zero_le _⟩ (fun _ H locs _ hI => ?_)
      have hE : (-(nI 2), up P 13 2 (P 13 2 + 1)) = d5_done P (nI jx) y := (by unfold d5_done; (try simp only [cN_nI (show jx < 65536 by omega)]); rw [if_neg c_9, if_pos c_17])
      exact f_mreti hx hb hr hlocks hI dX5_done_26 () (congrArg (fun z => some (Value.int z.1)) hE) trivial (congrArg (fun z => MO dA am z.2 T G L kt tr) hE)
