/-! THE REFERENCE: best climbs; what holds of a stair all through -/
/-- what holds of a stair's numbers all through: S steps, Wn ways -/
def PI (P : Nat → Nat → Int32) (S Wn : Nat) : Prop :=
  (P 7 0 = nI S ∧ S ≤ 9) ∧ (P 7 1 = nI Wn ∧ Wn ≤ 6) ∧ (∀ i, i < S → ∃ r : Nat, (1 ≤ r ∧ r ≤ 20) ∧ P 0 i = nI r) ∧ (∀ i, i < S → (P 1 i = 0 ∨ P 1 i = 1) ∧ (P 2 i = 0 ∨ P 2 i = 1) ∧ (P 3 i = 0 ∨ P 3 i = 1)) ∧
  (∀ w, w < Wn → ∃ k a : Nat, k ≤ 5 ∧ a ≤ 10 ∧ P 4 w = nI k ∧ P 5 w = nI a) ∧ (∃ v : Nat, (30 ≤ v ∧ v ≤ 200) ∧ P 6 0 = nI v) ∧ (∃ v : Nat, v ≤ 200 ∧ P 6 1 = nI v) ∧ (∃ v : Nat, v ≤ 200 ∧ P 6 2 = nI v) ∧ (∃ v : Nat, v ≤ 100 ∧ P 6 3 = nI v) ∧
  (∃ lo hi : Nat, lo ≤ hi ∧ hi ≤ 200 ∧ P 6 4 = nI lo ∧ P 6 5 = nI hi) ∧ (∀ j, 6 ≤ j → j < 10 → ∃ v : Nat, v ≤ 99 ∧ P 6 j = nI v)
def sTires (k a r b : Int32) : Int32 := if k = 0 then 1 else (if k = 1 then ((r * a) / 4) + 1 else (if k = 2 then 2 * (((r * a) / 4) + 1) else (if k = 3 then (if b = 0 then ((r * a) / 4) + 1 else (((r * a) / 4) + 1) / 2) else (if k = 4 then 3 * r else 2 * r))))
theorem tires_s (P : Nat → Nat → Int32) (w i : Nat) : d5_tires P w i = sTires (P 4 w) (P 5 w) (P 0 i) (P 1 i) := rfl
theorem sTires_nat : ∀ k, k < 6 → ∀ a, a < 11 → ∀ r, r < 21 → ∀ b, b < 2 → sTires (nI k) (nI a) (nI r) (nI b) = nI (sTires (nI k) (nI a) (nI r) (nI b)).toInt.toNat ∧ (sTires (nI k) (nI a) (nI r) (nI b)).toInt.toNat ≤ 102 := by decide +kernel
theorem tires_nat {P : Nat → Nat → Int32} {S Wn w i : Nat} (h : PI P S Wn) (hw : w < Wn) (hi : i < S) : ∃ t : Nat, t ≤ 102 ∧ d5_tires P w i = nI t := by
  obtain ⟨k, a, hk, ha, ek, ea⟩ := h.2.2.2.2.1 w hw
  obtain ⟨r, hr, er⟩ := h.2.2.1 i hi
  obtain ⟨hb, -, -⟩ := h.2.2.2.1 i hi
  obtain ⟨b, hb2, eb⟩ : ∃ b : Nat, b < 2 ∧ P 1 i = nI b := by
    rcases hb with e | e
    · exact ⟨0, by decide, e⟩
    · exact ⟨1, by decide, e⟩
  rw [tires_s, ek, ea, er, eb]
  obtain ⟨h1, h2⟩ := sTires_nat k (by omega) a (by omega) r (by omega) b hb2
  exact ⟨_, h2, h1⟩
theorem canBe_arms {P : Nat → Nat → Int32} {S Wn w i a : Nat} (h : PI P S Wn) (hw : w < Wn) (hi : i < S) (ha : a ≤ 200) (hc : ¬ d5_canBe P w i (nI a) = 0) : ∃ t : Nat, t ≤ 200 ∧ d5_armsBehind P w i (nI a) = nI t := by
  obtain ⟨t, ht, et⟩ := tires_nat h hw hi
  unfold d5_canBe at hc
  unfold d5_armsBehind
  split
  · split at hc
    · exact absurd rfl hc
    · rw [et] at hc ⊢
      split at hc
      · exact absurd rfl hc
      · rename_i h2
        rw [nI_ltI (by omega) (by omega)] at h2
        exact ⟨a - t, by omega, pk_sub (by omega)⟩
  · exact h.2.2.2.2.2.2.2.1
theorem dec_m {j : Nat} (h : j < 65536) : cN (nI j + (-1) + 1) = j := by
  have e : nI j + (-1) + 1 = nI j := by grind
  rw [e]; exact cN_nI h
theorem inc_m {j : Nat} (h : j < 65535) : cN (nI j + 1) = j + 1 := by rw [nI_1]; exact cN_nI (by omega)
theorem dec_or {j S : Nat} (h : j < S) (hS : S < 65536) : nI j + (-1) = -1 ∨ ∃ k : Nat, k < S ∧ nI j + (-1) = nI k := by
  cases j with
  | zero => exact Or.inl (by decide)
  | succ j => exact Or.inr ⟨j, by omega, pk_m1 j⟩
theorem pred_or {S : Nat} (hS : S < 65536) : nI S - 1 = -1 ∨ ∃ k : Nat, k < S ∧ nI S - 1 = nI k := by
  cases S with
  | zero => exact Or.inl (by decide)
  | succ j => exact Or.inr ⟨j, by omega, nI_pred j⟩
theorem pred_m {S : Nat} (h : S < 65536) : cN (nI S - 1 + 1) = S := by
  have e : nI S - 1 + 1 = nI S := by grind
  rw [e]; exact cN_nI h
theorem ge0_not {x : Int32} (h : ¬ x < 0) : ¬ x = -1 := by
  intro z; rw [z] at h; exact h (by decide)
def d5_tryWay (P : Nat → Nat → Int32) (T : Nat → Nat → Int32) (w : Nat) (i : Nat) (a : Nat) (y : Int32) : (Nat → Nat → Int32) := if (T (i + 1) (cN (d5_armsBehind P w i (nI a)))) = (-1) then T else (if (T i a) = (-1) then up (up (up T i a (nI w)) (10 + i) a ((d5_slips P w i) + (T (10 + (i + 1)) (cN (d5_armsBehind P w i (nI a)))))) (20 + i) a ((d5_tires P w i) + (T (20 + (i + 1)) (cN (d5_armsBehind P w i (nI a))))) else (if y = 0 then (if (d5_isLess ((d5_tires P w i) + (T (20 + (i + 1)) (cN (d5_armsBehind P w i (nI a))))) ((d5_slips P w i) + (T (10 + (i + 1)) (cN (d5_armsBehind P w i (nI a))))) (T (20 + i) a) (T (10 + i) a)) = 0 then T else up (up (up T i a (nI w)) (10 + i) a ((d5_slips P w i) + (T (10 + (i + 1)) (cN (d5_armsBehind P w i (nI a)))))) (20 + i) a ((d5_tires P w i) + (T (20 + (i + 1)) (cN (d5_armsBehind P w i (nI a)))))) else (if (d5_isLess ((d5_slips P w i) + (T (10 + (i + 1)) (cN (d5_armsBehind P w i (nI a))))) ((d5_tires P w i) + (T (20 + (i + 1)) (cN (d5_armsBehind P w i (nI a))))) (T (10 + i) a) (T (20 + i) a)) = 0 then T else up (up (up T i a (nI w)) (10 + i) a ((d5_slips P w i) + (T (10 + (i + 1)) (cN (d5_armsBehind P w i (nI a)))))) (20 + i) a ((d5_tires P w i) + (T (20 + (i + 1)) (cN (d5_armsBehind P w i (nI a))))))))
set_option maxHeartbeats 4000000 in
set_option maxRecDepth 100000 in
theorem m5_tryWay (l : Launch) (D : va_G) (dA : Nat → ClassId) (am : Nat → Nat) (P T : Nat → Nat → Int32) (G : Nat → Int32) (L : Nat → Nat → Int64) (kt tr : Option Nat) (sz : Nat) (tb : Nat) (w : Nat) (i : Nat) (a : Nat) (y : Int32) (h_w : w < 6) (h_i : i < 9) (h_a : a ≤ 200) (hab : d5_armsBehind P w i (nI a) = nI tb) (htb : tb ≤ 200) : Met l yX5_tryWay (ws_ yX5_tryWay cX5_tryWay 10 none) ({ frames := 2, cells := 0, slots := 0, locals := 46 } : Room) (fPm D dA (MO dA am P T G L kt tr) sz [.ref (am 0), .int (nI w), .int (nI i), .int (nI a), .int y]) (fQm (S := Unit) D (MO dA am P T G L kt tr) sz (fun _ => none) (fun _ => True) (fun _ => MO dA am P (d5_tryWay P T w i a y) G L kt tr)) 0 0 (fA (MO dA am P T G L kt tr) sz) := by
  refine Met.ofW (cc := cX5_tryWay) (maxL := 10) (ret := none) (by decide) rfl ?_
  intro p e s m args below meth c s₁ B hml hv
  obtain ⟨rfl, hsz, hP0, hG, hD0⟩ := hv
  have hK := hG.1
  have hx := B.exec
  have hb := B.bytes
  have hr := B.returns
  have hts := atoms_spec (ws := (ws_ yX5_tryWay cX5_tryWay 10 none)) B.pre
  have hts : ∀ w ∈ lw_all, w.before _ s = true := fun w h => hts w (List.mem_cons_of_mem _ h)
  have hown : s.vm.findClass RX5 = some m.cls := findClass_of_methodNamed B.named
  have hlocks := B.notSynchronized
  subst hsz
  have hI := FI.start hP0 hD0
  have hl := lv_entry ([.ref (am 0), .int (nI w), .int (nI i), .int (nI a), .int y]) (n := 10) (Nat.le_of_ble_eq_true rfl)
  rw [lg_entry_eq]
  generalize (lg_sl ([.ref (am 0), .int (nI w), .int (nI i), .int (nI a), .int y]) ++ List.replicate (10 - (lg_sl ([.ref (am 0), .int (nI w), .int (nI i), .int (nI a), .int y])).length) Slot.unset).toArray = ls at hl ⊢
  have hl : lv_has ls 10 [(0, .ref (am 0)), (1, .int (nI w)), (2, .int (nI i)), (3, .int (nI a)), (4, .int y)] := hl
  refine lv_aload_n hx hb dX5_tryWay_0 rfl (lv_at hl 0 rfl) ?_
  refine lv_iload_n hx hb dX5_tryWay_1 rfl (lv_at hl 1 rfl) ?_
  refine lv_iload_n hx hb dX5_tryWay_2 rfl (lv_at hl 2 rfl) ?_
  refine lv_iload_n hx hb dX5_tryWay_3 rfl (lv_at hl 3 rfl) ?_
  refine f_pV hx hb hml hown hts (m5_armsBehind l D dA am P T G L kt tr  w i (nI a) (by omega) (by omega)) (cwV 3 hts (lw_V q1875 q1877 qs58 q79 q1878) rfl rfl rfl (by decide +kernel) ⟨Nat.le_of_ble_eq_true rfl, Nat.le_of_ble_eq_true rfl⟩) hG hI.1 f_id MO_0 rfl rfl hl.1 rfl (Nat.le_of_ble_eq_true rfl) dX5_tryWay_4 ⟨Nat.zero_le _, Nat.zero_le _⟩ ?_
  refine lv_istore (lv' := [(5, .int (d5_armsBehind P w i (nI a))), (0, .ref (am 0)), (1, .int (nI w)), (2, .int (nI i)), (3, .int (nI a)), (4, .int y)]) hx hb dX5_tryWay_7 hl (by decide) rfl (fun ls hl => ?_)
  refine lv_aload_n hx hb dX5_tryWay_9 rfl (lv_at hl 1 rfl) ?_
  refine f_get hx hb hts in_X5 hown hK hI.1 0 MO_0 rfl 32 (by decide) (hts _ q1542) (fun x h => h) rfl dX5_tryWay_10 ?_
  refine lv_iload_n hx hb dX5_tryWay_13 rfl (lv_at hl 3 rfl) ?_
  refine lv_iconst (v := 1) hx hb dX5_tryWay_14 (by decide) ?_
  refine lv_iadd hx hb dX5_tryWay_15 ?_
  refine f_as (y := nI (i + 1)) (nI_add i 1) ?_
  refine f_aldA hx hb hK hI.1 16 9 MO_16 rfl (i + 1) rfl (by omega) (by decide) rfl dX5_tryWay_16 ?_
  refine lv_iload hx hb dX5_tryWay_17 (lv_at hl 0 rfl) ?_
  refine f_iald hx hb hK hI.1 (30 + (i + 1)) 0 (MO_tab0 (by omega)) rfl tb hab (by omega) (by decide) dX5_tryWay_19 ?_
  refine lv_iconst (v := -1) hx hb dX5_tryWay_20 (by decide) ?_
  refine lv_icmp_ne (tgt := 25) hx hb dX5_tryWay_21 (by decide) (fun c_21 => ?_) (fun c_21 => ?_)
  · refine lv_aload_n hx hb dX5_tryWay_25 rfl (lv_at hl 1 rfl) ?_
    refine lv_iload_n hx hb dX5_tryWay_26 rfl (lv_at hl 2 rfl) ?_
    refine lv_iload_n hx hb dX5_tryWay_27 rfl (lv_at hl 3 rfl) ?_
    refine f_pV hx hb hml hown hts (m5_slips l D dA am P T G L kt tr  w i (by omega) (by omega)) (cwV 2 hts (lw_V q1672 q1674 qs35 q79 q1675) rfl rfl rfl (by decide +kernel) ⟨Nat.le_of_ble_eq_true rfl, Nat.le_of_ble_eq_true rfl⟩) hG hI.1 f_id MO_0 rfl rfl hl.1 rfl (Nat.le_of_ble_eq_true rfl) dX5_tryWay_28 ⟨Nat.zero_le _, Nat.zero_le _⟩ ?_
    refine lv_aload_n hx hb dX5_tryWay_31 rfl (lv_at hl 1 rfl) ?_
    refine f_get hx hb hts in_X5 hown hK hI.1 0 MO_0 rfl 33 (by decide) (hts _ q1543) (fun x h => h) rfl dX5_tryWay_32 ?_
    refine lv_iload_n hx hb dX5_tryWay_35 rfl (lv_at hl 3 rfl) ?_
    refine lv_iconst (v := 1) hx hb dX5_tryWay_36 (by decide) ?_
    refine lv_iadd hx hb dX5_tryWay_37 ?_
    refine f_as (y := nI (i + 1)) (nI_add i 1) ?_
    refine f_aldA hx hb hK hI.1 17 9 MO_17 rfl (i + 1) rfl (by omega) (by decide) rfl dX5_tryWay_38 ?_
    refine lv_iload hx hb dX5_tryWay_39 (lv_at hl 0 rfl) ?_
    refine f_iald hx hb hK hI.1 (40 + (i + 1)) 0 (MO_tab1 (by omega)) rfl tb hab (by omega) (by decide) dX5_tryWay_41 ?_
    refine lv_iadd hx hb dX5_tryWay_42 ?_
    refine lv_istore (lv' := [(6, .int ((d5_slips P w i) + (T (10 + (i + 1)) tb))), (5, .int (d5_armsBehind P w i (nI a))), (0, .ref (am 0)), (1, .int (nI w)), (2, .int (nI i)), (3, .int (nI a)), (4, .int y)]) hx hb dX5_tryWay_43 hl (by decide) rfl (fun ls hl => ?_)
    refine lv_aload_n hx hb dX5_tryWay_45 rfl (lv_at hl 2 rfl) ?_
    refine lv_iload_n hx hb dX5_tryWay_46 rfl (lv_at hl 3 rfl) ?_
    refine lv_iload_n hx hb dX5_tryWay_47 rfl (lv_at hl 4 rfl) ?_
    refine f_pV hx hb hml hown hts (m5_tires l D dA am P T G L kt tr  w i (by omega) (by omega)) (cwV 2 hts (lw_V q1680 q1682 qs37 q79 q1683) rfl rfl rfl (by decide +kernel) ⟨Nat.le_of_ble_eq_true rfl, Nat.le_of_ble_eq_true rfl⟩) hG hI.1 f_id MO_0 rfl rfl hl.1 rfl (Nat.le_of_ble_eq_true rfl) dX5_tryWay_48 ⟨Nat.zero_le _, Nat.zero_le _⟩ ?_
    refine lv_aload_n hx hb dX5_tryWay_51 rfl (lv_at hl 2 rfl) ?_
    refine f_get hx hb hts in_X5 hown hK hI.1 0 MO_0 rfl 34 (by decide) (hts _ q1544) (fun x h => h) rfl dX5_tryWay_52 ?_
    refine lv_iload_n hx hb dX5_tryWay_55 rfl (lv_at hl 4 rfl) ?_
    refine lv_iconst (v := 1) hx hb dX5_tryWay_56 (by decide) ?_
    refine lv_iadd hx hb dX5_tryWay_57 ?_
    refine f_as (y := nI (i + 1)) (nI_add i 1) ?_
    refine f_aldA hx hb hK hI.1 18 9 MO_18 rfl (i + 1) rfl (by omega) (by decide) rfl dX5_tryWay_58 ?_
    refine lv_iload hx hb dX5_tryWay_59 (lv_at hl 1 rfl) ?_
    refine f_iald hx hb hK hI.1 (50 + (i + 1)) 0 (MO_tab2 (by omega)) rfl tb hab (by omega) (by decide) dX5_tryWay_61 ?_
    refine lv_iadd hx hb dX5_tryWay_62 ?_
    refine lv_istore (lv' := [(7, .int ((d5_tires P w i) + (T (20 + (i + 1)) tb))), (6, .int ((d5_slips P w i) + (T (10 + (i + 1)) tb))), (5, .int (d5_armsBehind P w i (nI a))), (0, .ref (am 0)), (1, .int (nI w)), (2, .int (nI i)), (3, .int (nI a)), (4, .int y)]) hx hb dX5_tryWay_63 hl (by decide) rfl (fun ls hl => ?_)
    refine lv_aload_n hx hb dX5_tryWay_65 rfl (lv_at hl 3 rfl) ?_
    refine f_get hx hb hts in_X5 hown hK hI.1 0 MO_0 rfl 32 (by decide) (hts _ q1542) (fun x h => h) rfl dX5_tryWay_66 ?_
    refine lv_iload_n hx hb dX5_tryWay_69 rfl (lv_at hl 5 rfl) ?_
    refine f_aldA hx hb hK hI.1 16 9 MO_16 rfl i rfl (by omega) (by decide) rfl dX5_tryWay_70 ?_
    refine lv_iload_n hx hb dX5_tryWay_71 rfl (lv_at hl 6 rfl) ?_
    refine f_iald hx hb hK hI.1 (30 + i) 0 (MO_tab0 (by omega)) rfl a rfl (by omega) (by decide) dX5_tryWay_72 ?_
    refine lv_iconst (v := -1) hx hb dX5_tryWay_73 (by decide) ?_
    refine lv_icmp_ne (tgt := 81) hx hb dX5_tryWay_74 (by decide) (fun c_74 => ?_) (fun c_74 => ?_)
    · refine lv_iconst (v := 0) hx hb dX5_tryWay_81 (by decide) ?_
      refine lv_istore (lv' := [(8, .int 0), (7, .int ((d5_tires P w i) + (T (20 + (i + 1)) tb))), (6, .int ((d5_slips P w i) + (T (10 + (i + 1)) tb))), (5, .int (d5_armsBehind P w i (nI a))), (0, .ref (am 0)), (1, .int (nI w)), (2, .int (nI i)), (3, .int (nI a)), (4, .int y)]) hx hb dX5_tryWay_82 hl (by decide) rfl (fun ls hl => ?_)
      refine lv_iload hx hb dX5_tryWay_84 (lv_at hl 0 rfl) ?_
      refine lv_if_ne (tgt := 153) hx hb dX5_tryWay_86 (by decide) (fun c => absurd c (by decide)) (fun _ => ?_)
      refine lv_iload hx hb dX5_tryWay_89 (lv_at hl 8 rfl) ?_
      refine lv_if_eq (tgt := 123) hx hb dX5_tryWay_91 (by decide) (fun c_91 => ?_) (fun c_91 => ?_)
      · refine lv_iload hx hb dX5_tryWay_123 (lv_at hl 1 rfl) ?_
        refine lv_iload hx hb dX5_tryWay_125 (lv_at hl 2 rfl) ?_
        refine lv_aload_n hx hb dX5_tryWay_127 rfl (lv_at hl 4 rfl) ?_
        refine f_get hx hb hts in_X5 hown hK hI.1 0 MO_0 rfl 34 (by decide) (hts _ q1544) (fun x h => h) rfl dX5_tryWay_128 ?_
        refine lv_iload_n hx hb dX5_tryWay_131 rfl (lv_at hl 6 rfl) ?_
        refine f_aldA hx hb hK hI.1 18 9 MO_18 rfl i rfl (by omega) (by decide) rfl dX5_tryWay_132 ?_
        refine lv_iload_n hx hb dX5_tryWay_133 rfl (lv_at hl 7 rfl) ?_
        refine f_iald hx hb hK hI.1 (50 + i) 0 (MO_tab2 (by omega)) rfl a rfl (by omega) (by decide) dX5_tryWay_134 ?_
        refine lv_aload_n hx hb dX5_tryWay_135 rfl (lv_at hl 4 rfl) ?_
        refine f_get hx hb hts in_X5 hown hK hI.1 0 MO_0 rfl 33 (by decide) (hts _ q1543) (fun x h => h) rfl dX5_tryWay_136 ?_
        refine lv_iload_n hx hb dX5_tryWay_139 rfl (lv_at hl 6 rfl) ?_
        refine f_aldA hx hb hK hI.1 17 9 MO_17 rfl i rfl (by omega) (by decide) rfl dX5_tryWay_140 ?_
        refine lv_iload_n hx hb dX5_tryWay_141 rfl (lv_at hl 7 rfl) ?_
        refine f_iald hx hb hK hI.1 (40 + i) 0 (MO_tab1 (by omega)) rfl a rfl (by omega) (by decide) dX5_tryWay_142 ?_
        refine f_pS hx hb hml hown hts (m5_isLess l D dA (MO dA am P T G L kt tr)  ((d5_tires P w i) + (T (20 + (i + 1)) tb)) ((d5_slips P w i) + (T (10 + (i + 1)) tb)) (T (20 + i) a) (T (10 + i) a) ) (va_cwS 4 hts (lw_S q1903 q1904 q79 q1905) rfl rfl rfl (by decide +kernel) ⟨Nat.le_of_ble_eq_true rfl, Nat.le_of_ble_eq_true rfl⟩) hG hI.1 f_id rfl hl.1 rfl (Nat.le_of_ble_eq_true rfl) dX5_tryWay_143 ⟨Nat.zero_le _, Nat.zero_le _⟩ ?_
        refine lv_if_eq (tgt := 153) hx hb dX5_tryWay_146 (by decide) (fun c_146 => ?_) (fun c_146 => ?_)
        · refine lv_iconst (v := 0) hx hb dX5_tryWay_153 (by decide) ?_
          refine lv_istore (lv' := [(9, .int 0), (8, .int 0), (7, .int ((d5_tires P w i) + (T (20 + (i + 1)) tb))), (6, .int ((d5_slips P w i) + (T (10 + (i + 1)) tb))), (5, .int (d5_armsBehind P w i (nI a))), (0, .ref (am 0)), (1, .int (nI w)), (2, .int (nI i)), (3, .int (nI a)), (4, .int y)]) hx hb dX5_tryWay_154 hl (by decide) rfl (fun ls hl => ?_)
          refine lv_iload hx hb dX5_tryWay_156 (lv_at hl 1 rfl) ?_
          refine lv_if_ne (tgt := 166) hx hb dX5_tryWay_158 (by decide) (fun c => absurd c (by decide)) (fun _ => ?_)
          refine lv_iload hx hb dX5_tryWay_161 (lv_at hl 0 rfl) ?_
          refine lv_if_eq (tgt := 195) hx hb dX5_tryWay_163 (by decide) (fun _ => ?_) (fun c => absurd c (by decide))
          have hE : T = d5_tryWay P T w i a y := (by unfold d5_tryWay; (try simp only [cN_of hab (show tb < 65536 by omega)]); rw [if_neg c_21, if_neg c_74, if_pos c_91, if_pos c_146])
          exact f_mretv hx hb hr hlocks hI dX5_tryWay_195 () rfl trivial (congrArg (fun z => MO dA am P z G L kt tr) hE)
        · refine lv_iconst (v := 1) hx hb dX5_tryWay_149 (by decide) ?_
          refine lv_goto (tgt := 154) hx hb dX5_tryWay_150 (by decide) ?_
          refine lv_istore (lv' := [(9, .int 1), (8, .int 0), (7, .int ((d5_tires P w i) + (T (20 + (i + 1)) tb))), (6, .int ((d5_slips P w i) + (T (10 + (i + 1)) tb))), (5, .int (d5_armsBehind P w i (nI a))), (0, .ref (am 0)), (1, .int (nI w)), (2, .int (nI i)), (3, .int (nI a)), (4, .int y)]) hx hb dX5_tryWay_154 hl (by decide) rfl (fun ls hl => ?_)
          refine lv_iload hx hb dX5_tryWay_156 (lv_at hl 1 rfl) ?_
          refine lv_if_ne (tgt := 166) hx hb dX5_tryWay_158 (by decide) (fun c => absurd c (by decide)) (fun _ => ?_)
          refine lv_iload hx hb dX5_tryWay_161 (lv_at hl 0 rfl) ?_
          refine lv_if_eq (tgt := 195) hx hb dX5_tryWay_163 (by decide) (fun c => absurd c (by decide)) (fun _ => ?_)
          refine lv_aload_n hx hb dX5_tryWay_166 rfl (lv_at hl 5 rfl) ?_
          refine f_get hx hb hts in_X5 hown hK hI.1 0 MO_0 rfl 32 (by decide) (hts _ q1542) (fun x h => h) rfl dX5_tryWay_167 ?_
          refine lv_iload_n hx hb dX5_tryWay_170 rfl (lv_at hl 7 rfl) ?_
          refine f_aldA hx hb hK hI.1 16 9 MO_16 rfl i rfl (by omega) (by decide) rfl dX5_tryWay_171 ?_
          refine lv_iload_n hx hb dX5_tryWay_172 rfl (lv_at hl 8 rfl) ?_
          refine lv_iload_n hx hb dX5_tryWay_173 rfl (lv_at hl 6 rfl) ?_
          refine f_iast hx hb hK hI (30 + i) 0 (MO_tab0 (by omega)) rfl a rfl (by omega) (by decide) dX5_tryWay_174 (fun H locs hI => ?_)
          have hI := hI.congr (MO_at0 (by omega))
          refine lv_aload_n hx hb dX5_tryWay_175 rfl (lv_at hl 5 rfl) ?_
          refine f_get hx hb hts in_X5 hown hK hI.1 0 MO_0 rfl 33 (by decide) (hts _ q1543) (fun x h => h) rfl dX5_tryWay_176 ?_
          refine lv_iload_n hx hb dX5_tryWay_179 rfl (lv_at hl 7 rfl) ?_
          refine f_aldA hx hb hK hI.1 17 9 MO_17 rfl i rfl (by omega) (by decide) rfl dX5_tryWay_180 ?_
          refine lv_iload_n hx hb dX5_tryWay_181 rfl (lv_at hl 8 rfl) ?_
          refine lv_iload hx hb dX5_tryWay_182 (lv_at hl 3 rfl) ?_
          refine f_iast hx hb hK hI (40 + i) 0 (MO_tab1 (by omega)) rfl a rfl (by omega) (by decide) dX5_tryWay_184 (fun H locs hI => ?_)
          have hI := hI.congr (MO_at1 (by omega))
          refine lv_aload_n hx hb dX5_tryWay_185 rfl (lv_at hl 5 rfl) ?_
          refine f_get hx hb hts in_X5 hown hK hI.1 0 MO_0 rfl 34 (by decide) (hts _ q1544) (fun x h => h) rfl dX5_tryWay_186 ?_
          refine lv_iload_n hx hb dX5_tryWay_189 rfl (lv_at hl 7 rfl) ?_
          refine f_aldA hx hb hK hI.1 18 9 MO_18 rfl i rfl (by omega) (by decide) rfl dX5_tryWay_190 ?_
          refine lv_iload_n hx hb dX5_tryWay_191 rfl (lv_at hl 8 rfl) ?_
          refine lv_iload hx hb dX5_tryWay_192 (lv_at hl 2 rfl) ?_
          refine f_iast hx hb hK hI (50 + i) 0 (MO_tab2 (by omega)) rfl a rfl (by omega) (by decide) dX5_tryWay_194 (fun H locs hI => ?_)
          have hI := hI.congr (MO_at2 (by omega))
          have hE : up (up (up T i a (nI w)) (10 + i) a ((d5_slips P w i) + (T (10 + (i + 1)) tb))) (20 + i) a ((d5_tires P w i) + (T (20 + (i + 1)) tb)) = d5_tryWay P T w i a y := (by unfold d5_tryWay; (try simp only [cN_of hab (show tb < 65536 by omega)]); rw [if_neg c_21, if_neg c_74, if_pos c_91, if_neg c_146])
          exact f_mretv hx hb hr hlocks hI dX5_tryWay_195 () rfl trivial (congrArg (fun z => MO dA am P z G L kt tr) hE)
      · refine lv_iload hx hb dX5_tryWay_94 (lv_at hl 2 rfl) ?_
        refine lv_iload hx hb dX5_tryWay_96 (lv_at hl 1 rfl) ?_
        refine lv_aload_n hx hb dX5_tryWay_98 rfl (lv_at hl 4 rfl) ?_
        refine f_get hx hb hts in_X5 hown hK hI.1 0 MO_0 rfl 33 (by decide) (hts _ q1543) (fun x h => h) rfl dX5_tryWay_99 ?_
        refine lv_iload_n hx hb dX5_tryWay_102 rfl (lv_at hl 6 rfl) ?_
        refine f_aldA hx hb hK hI.1 17 9 MO_17 rfl i rfl (by omega) (by decide) rfl dX5_tryWay_103 ?_
        refine lv_iload_n hx hb dX5_tryWay_104 rfl (lv_at hl 7 rfl) ?_
        refine f_iald hx hb hK hI.1 (40 + i) 0 (MO_tab1 (by omega)) rfl a rfl (by omega) (by decide) dX5_tryWay_105 ?_
        refine lv_aload_n hx hb dX5_tryWay_106 rfl (lv_at hl 4 rfl) ?_
        refine f_get hx hb hts in_X5 hown hK hI.1 0 MO_0 rfl 34 (by decide) (hts _ q1544) (fun x h => h) rfl dX5_tryWay_107 ?_
        refine lv_iload_n hx hb dX5_tryWay_110 rfl (lv_at hl 6 rfl) ?_
        refine f_aldA hx hb hK hI.1 18 9 MO_18 rfl i rfl (by omega) (by decide) rfl dX5_tryWay_111 ?_
        refine lv_iload_n hx hb dX5_tryWay_112 rfl (lv_at hl 7 rfl) ?_
        refine f_iald hx hb hK hI.1 (50 + i) 0 (MO_tab2 (by omega)) rfl a rfl (by omega) (by decide) dX5_tryWay_113 ?_
        refine f_pS hx hb hml hown hts (m5_isLess l D dA (MO dA am P T G L kt tr)  ((d5_slips P w i) + (T (10 + (i + 1)) tb)) ((d5_tires P w i) + (T (20 + (i + 1)) tb)) (T (10 + i) a) (T (20 + i) a) ) (va_cwS 4 hts (lw_S q1903 q1904 q79 q1905) rfl rfl rfl (by decide +kernel) ⟨Nat.le_of_ble_eq_true rfl, Nat.le_of_ble_eq_true rfl⟩) hG hI.1 f_id rfl hl.1 rfl (Nat.le_of_ble_eq_true rfl) dX5_tryWay_114 ⟨Nat.zero_le _, Nat.zero_le _⟩ ?_
        refine lv_if_eq (tgt := 153) hx hb dX5_tryWay_117 (by decide) (fun c_117 => ?_) (fun c_117 => ?_)
        · refine lv_iconst (v := 0) hx hb dX5_tryWay_153 (by decide) ?_
          refine lv_istore (lv' := [(9, .int 0), (8, .int 0), (7, .int ((d5_tires P w i) + (T (20 + (i + 1)) tb))), (6, .int ((d5_slips P w i) + (T (10 + (i + 1)) tb))), (5, .int (d5_armsBehind P w i (nI a))), (0, .ref (am 0)), (1, .int (nI w)), (2, .int (nI i)), (3, .int (nI a)), (4, .int y)]) hx hb dX5_tryWay_154 hl (by decide) rfl (fun ls hl => ?_)
          refine lv_iload hx hb dX5_tryWay_156 (lv_at hl 1 rfl) ?_
          refine lv_if_ne (tgt := 166) hx hb dX5_tryWay_158 (by decide) (fun c => absurd c (by decide)) (fun _ => ?_)
          refine lv_iload hx hb dX5_tryWay_161 (lv_at hl 0 rfl) ?_
          refine lv_if_eq (tgt := 195) hx hb dX5_tryWay_163 (by decide) (fun _ => ?_) (fun c => absurd c (by decide))
          have hE : T = d5_tryWay P T w i a y := (by unfold d5_tryWay; (try simp only [cN_of hab (show tb < 65536 by omega)]); rw [if_neg c_21, if_neg c_74, if_neg c_91, if_pos c_117])
          exact f_mretv hx hb hr hlocks hI dX5_tryWay_195 () rfl trivial (congrArg (fun z => MO dA am P z G L kt tr) hE)
        · refine lv_goto (tgt := 149) hx hb dX5_tryWay_120 (by decide) ?_
          refine lv_iconst (v := 1) hx hb dX5_tryWay_149 (by decide) ?_
          refine lv_goto (tgt := 154) hx hb dX5_tryWay_150 (by decide) ?_
          refine lv_istore (lv' := [(9, .int 1), (8, .int 0), (7, .int ((d5_tires P w i) + (T (20 + (i + 1)) tb))), (6, .int ((d5_slips P w i) + (T (10 + (i + 1)) tb))), (5, .int (d5_armsBehind P w i (nI a))), (0, .ref (am 0)), (1, .int (nI w)), (2, .int (nI i)), (3, .int (nI a)), (4, .int y)]) hx hb dX5_tryWay_154 hl (by decide) rfl (fun ls hl => ?_)
          refine lv_iload hx hb dX5_tryWay_156 (lv_at hl 1 rfl) ?_
          refine lv_if_ne (tgt := 166) hx hb dX5_tryWay_158 (by decide) (fun c => absurd c (by decide)) (fun _ => ?_)
          refine lv_iload hx hb dX5_tryWay_161 (lv_at hl 0 rfl) ?_
          refine lv_if_eq (tgt := 195) hx hb dX5_tryWay_163 (by decide) (fun c => absurd c (by decide)) (fun _ => ?_)
          refine lv_aload_n hx hb dX5_tryWay_166 rfl (lv_at hl 5 rfl) ?_
          refine f_get hx hb hts in_X5 hown hK hI.1 0 MO_0 rfl 32 (by decide) (hts _ q1542) (fun x h => h) rfl dX5_tryWay_167 ?_
          refine lv_iload_n hx hb dX5_tryWay_170 rfl (lv_at hl 7 rfl) ?_
          refine f_aldA hx hb hK hI.1 16 9 MO_16 rfl i rfl (by omega) (by decide) rfl dX5_tryWay_171 ?_
          refine lv_iload_n hx hb dX5_tryWay_172 rfl (lv_at hl 8 rfl) ?_
          refine lv_iload_n hx hb dX5_tryWay_173 rfl (lv_at hl 6 rfl) ?_
          refine f_iast hx hb hK hI (30 + i) 0 (MO_tab0 (by omega)) rfl a rfl (by omega) (by decide) dX5_tryWay_174 (fun H locs hI => ?_)
          have hI := hI.congr (MO_at0 (by omega))
          refine lv_aload_n hx hb dX5_tryWay_175 rfl (lv_at hl 5 rfl) ?_
          refine f_get hx hb hts in_X5 hown hK hI.1 0 MO_0 rfl 33 (by decide) (hts _ q1543) (fun x h => h) rfl dX5_tryWay_176 ?_
          refine lv_iload_n hx hb dX5_tryWay_179 rfl (lv_at hl 7 rfl) ?_
          refine f_aldA hx hb hK hI.1 17 9 MO_17 rfl i rfl (by omega) (by decide) rfl dX5_tryWay_180 ?_
          refine lv_iload_n hx hb dX5_tryWay_181 rfl (lv_at hl 8 rfl) ?_
          refine lv_iload hx hb dX5_tryWay_182 (lv_at hl 3 rfl) ?_
          refine f_iast hx hb hK hI (40 + i) 0 (MO_tab1 (by omega)) rfl a rfl (by omega) (by decide) dX5_tryWay_184 (fun H locs hI => ?_)
          have hI := hI.congr (MO_at1 (by omega))
          refine lv_aload_n hx hb dX5_tryWay_185 rfl (lv_at hl 5 rfl) ?_
          refine f_get hx hb hts in_X5 hown hK hI.1 0 MO_0 rfl 34 (by decide) (hts _ q1544) (fun x h => h) rfl dX5_tryWay_186 ?_
          refine lv_iload_n hx hb dX5_tryWay_189 rfl (lv_at hl 7 rfl) ?_
          refine f_aldA hx hb hK hI.1 18 9 MO_18 rfl i rfl (by omega) (by decide) rfl dX5_tryWay_190 ?_
          refine lv_iload_n hx hb dX5_tryWay_191 rfl (lv_at hl 8 rfl) ?_
          refine lv_iload hx hb dX5_tryWay_192 (lv_at hl 2 rfl) ?_
          refine f_iast hx hb hK hI (50 + i) 0 (MO_tab2 (by omega)) rfl a rfl (by omega) (by decide) dX5_tryWay_194 (fun H locs hI => ?_)
          have hI := hI.congr (MO_at2 (by omega))
          have hE : up (up (up T i a (nI w)) (10 + i) a ((d5_slips P w i) + (T (10 + (i + 1)) tb))) (20 + i) a ((d5_tires P w i) + (T (20 + (i + 1)) tb)) = d5_tryWay P T w i a y := (by unfold d5_tryWay; (try simp only [cN_of hab (show tb < 65536 by omega)]); rw [if_neg c_21, if_neg c_74, if_neg c_91, if_neg c_117])
          exact f_mretv hx hb hr hlocks hI dX5_tryWay_195 () rfl trivial (congrArg (fun z => MO dA am P z G L kt tr) hE)
    · refine lv_iconst (v := 1) hx hb dX5_tryWay_77 (by decide) ?_
      refine lv_goto (tgt := 82) hx hb dX5_tryWay_78 (by decide) ?_
      refine lv_istore (lv' := [(8, .int 1), (7, .int ((d5_tires P w i) + (T (20 + (i + 1)) tb))), (6, .int ((d5_slips P w i) + (T (10 + (i + 1)) tb))), (5, .int (d5_armsBehind P w i (nI a))), (0, .ref (am 0)), (1, .int (nI w)), (2, .int (nI i)), (3, .int (nI a)), (4, .int y)]) hx hb dX5_tryWay_82 hl (by decide) rfl (fun ls hl => ?_)
      refine lv_iload hx hb dX5_tryWay_84 (lv_at hl 0 rfl) ?_
      refine lv_if_ne (tgt := 153) hx hb dX5_tryWay_86 (by decide) (fun _ => ?_) (fun c => absurd c (by decide))
      refine lv_iconst (v := 0) hx hb dX5_tryWay_153 (by decide) ?_
      refine lv_istore (lv' := [(9, .int 0), (8, .int 1), (7, .int ((d5_tires P w i) + (T (20 + (i + 1)) tb))), (6, .int ((d5_slips P w i) + (T (10 + (i + 1)) tb))), (5, .int (d5_armsBehind P w i (nI a))), (0, .ref (am 0)), (1, .int (nI w)), (2, .int (nI i)), (3, .int (nI a)), (4, .int y)]) hx hb dX5_tryWay_154 hl (by decide) rfl (fun ls hl => ?_)
      refine lv_iload hx hb dX5_tryWay_156 (lv_at hl 1 rfl) ?_
      refine lv_if_ne (tgt := 166) hx hb dX5_tryWay_158 (by decide) (fun _ => ?_) (fun c => absurd c (by decide))
      refine lv_aload_n hx hb dX5_tryWay_166 rfl (lv_at hl 5 rfl) ?_
      refine f_get hx hb hts in_X5 hown hK hI.1 0 MO_0 rfl 32 (by decide) (hts _ q1542) (fun x h => h) rfl dX5_tryWay_167 ?_
      refine lv_iload_n hx hb dX5_tryWay_170 rfl (lv_at hl 7 rfl) ?_
      refine f_aldA hx hb hK hI.1 16 9 MO_16 rfl i rfl (by omega) (by decide) rfl dX5_tryWay_171 ?_
      refine lv_iload_n hx hb dX5_tryWay_172 rfl (lv_at hl 8 rfl) ?_
      refine lv_iload_n hx hb dX5_tryWay_173 rfl (lv_at hl 6 rfl) ?_
      refine f_iast hx hb hK hI (30 + i) 0 (MO_tab0 (by omega)) rfl a rfl (by omega) (by decide) dX5_tryWay_174 (fun H locs hI => ?_)
      have hI := hI.congr (MO_at0 (by omega))
      refine lv_aload_n hx hb dX5_tryWay_175 rfl (lv_at hl 5 rfl) ?_
      refine f_get hx hb hts in_X5 hown hK hI.1 0 MO_0 rfl 33 (by decide) (hts _ q1543) (fun x h => h) rfl dX5_tryWay_176 ?_
      refine lv_iload_n hx hb dX5_tryWay_179 rfl (lv_at hl 7 rfl) ?_
      refine f_aldA hx hb hK hI.1 17 9 MO_17 rfl i rfl (by omega) (by decide) rfl dX5_tryWay_180 ?_
      refine lv_iload_n hx hb dX5_tryWay_181 rfl (lv_at hl 8 rfl) ?_
      refine lv_iload hx hb dX5_tryWay_182 (lv_at hl 3 rfl) ?_
      refine f_iast hx hb hK hI (40 + i) 0 (MO_tab1 (by omega)) rfl a rfl (by omega) (by decide) dX5_tryWay_184 (fun H locs hI => ?_)
      have hI := hI.congr (MO_at1 (by omega))
      refine lv_aload_n hx hb dX5_tryWay_185 rfl (lv_at hl 5 rfl) ?_
      refine f_get hx hb hts in_X5 hown hK hI.1 0 MO_0 rfl 34 (by decide) (hts _ q1544) (fun x h => h) rfl dX5_tryWay_186 ?_
      refine lv_iload_n hx hb dX5_tryWay_189 rfl (lv_at hl 7 rfl) ?_
      refine f_aldA hx hb hK hI.1 18 9 MO_18 rfl i rfl (by omega) (by decide) rfl dX5_tryWay_190 ?_
      refine lv_iload_n hx hb dX5_tryWay_191 rfl (lv_at hl 8 rfl) ?_
      refine lv_iload hx hb dX5_tryWay_192 (lv_at hl 2 rfl) ?_
      refine f_iast hx hb hK hI (50 + i) 0 (MO_tab2 (by omega)) rfl a rfl (by omega) (by decide) dX5_tryWay_194 (fun H locs hI => ?_)
      have hI := hI.congr (MO_at2 (by omega))
      have hE : up (up (up T i a (nI w)) (10 + i) a ((d5_slips P w i) + (T (10 + (i + 1)) tb))) (20 + i) a ((d5_tires P w i) + (T (20 + (i + 1)) tb)) = d5_tryWay P T w i a y := (by unfold d5_tryWay; (try simp only [cN_of hab (show tb < 65536 by omega)]); rw [if_neg c_21, if_pos c_74])
      exact f_mretv hx hb hr hlocks hI dX5_tryWay_195 () rfl trivial (congrArg (fun z => MO dA am P z G L kt tr) hE)
  · have hE : T = d5_tryWay P T w i a y := (by unfold d5_tryWay; (try simp only [cN_of hab (show tb < 65536 by omega)]); rw [if_pos c_21])
    exact f_mretv hx hb hr hlocks hI dX5_tryWay_24 () rfl trivial (congrArg (fun z => MO dA am P z G L kt tr) hE)
def g5_findBest_86 (P : Nat → Nat → Int32) (x : Int32) (y : Int32) (j3 : Nat) (k4 : Nat) (R_65 : Nat → (Nat → Nat → Int32) → (Nat → Nat → Int32)) : Nat → Nat → (Nat → Nat → Int32) → (Nat → Nat → Int32)
  | 0, _, _ => fun _ _ => 0
  | n + 1, k5, T1''' => if (P 7 1) ≤ (nI k5) then R_65 (k4 + 1) T1''' else (if (d5_canBe P k5 j3 (nI k4)) = 0 then g5_findBest_86 P x y j3 k4 R_65 n (k5 + 1) T1''' else (if x < (d5_slips P k5 j3) then g5_findBest_86 P x y j3 k4 R_65 n (k5 + 1) T1''' else g5_findBest_86 P x y j3 k4 R_65 n (k5 + 1) (d5_tryWay P T1''' k5 j3 k4 y)))
def g5_findBest_65 (P : Nat → Nat → Int32) (x : Int32) (y : Int32) (Wn : Nat) (j3 : Nat) (R_58 : Int32 → (Nat → Nat → Int32) → (Nat → Nat → Int32)) : Nat → Nat → (Nat → Nat → Int32) → (Nat → Nat → Int32)
  | 0, _, _ => fun _ _ => 0
  | n + 1, k4, T1'' => if 200 < (nI k4) then R_58 ((nI j3) + (-1)) T1'' else g5_findBest_86 P x y j3 k4 (g5_findBest_65 P x y Wn j3 R_58 n) (Wn + 1) 0 (up T1'' j3 k4 (-1))
def g5_findBest_58 (P : Nat → Nat → Int32) (x : Int32) (y : Int32) (Wn : Nat)  : Nat → Int32 → (Nat → Nat → Int32) → (Nat → Nat → Int32)
  | 0, _, _ => fun _ _ => 0
  | n + 1, x3, T1' => if x3 < 0 then T1' else g5_findBest_65 P x y Wn (cN x3) (g5_findBest_58 P x y Wn n) 202 0 T1'
def g5_findBest_2 (P : Nat → Nat → Int32) (x : Int32) (y : Int32) (S : Nat) (Wn : Nat)  : Nat → Nat → (Nat → Nat → Int32) → (Nat → Nat → Int32)
  | 0, _, _ => fun _ _ => 0
  | n + 1, k3, T1 => if 200 < (nI k3) then g5_findBest_58 P x y Wn (S + 1) ((P 7 0) - 1) T1 else g5_findBest_2 P x y S Wn n (k3 + 1) (up (up (up T1 S k3 0) (10 + S) k3 0) (20 + S) k3 0)
def d5_findBest (P : Nat → Nat → Int32) (T : Nat → Nat → Int32) (x : Int32) (y : Int32) (S : Nat) (Wn : Nat) : (Nat → Nat → Int32) := g5_findBest_2 P x y S Wn 202 0 T
set_option maxHeartbeats 4000000 in
set_option maxRecDepth 100000 in
theorem m5_findBest (l : Launch) (D : va_G) (dA : Nat → ClassId) (am : Nat → Nat) (P T : Nat → Nat → Int32) (G : Nat → Int32) (L : Nat → Nat → Int64) (kt tr : Option Nat) (sz : Nat) (S : Nat) (Wn : Nat) (x : Int32) (y : Int32) (hpi : PI P S Wn) : Met l yX5_findBest (ws_ yX5_findBest cX5_findBest 6 none) ({ frames := 3, cells := 0, slots := 0, locals := 75 } : Room) (fPm D dA (MO dA am P T G L kt tr) sz [.ref (am 0), .int x, .int y]) (fQm (S := Unit) D (MO dA am P T G L kt tr) sz (fun _ => none) (fun _ => True) (fun _ => MO dA am P (d5_findBest P T x y S Wn) G L kt tr)) 0 0 (fA (MO dA am P T G L kt tr) sz) := by
  refine Met.ofW (cc := cX5_findBest) (maxL := 6) (ret := none) (by decide) rfl ?_
  intro p e s m args below meth c s₁ B hml hv
  obtain ⟨rfl, hsz, hP0, hG, hD0⟩ := hv
  have hK := hG.1
  have hx := B.exec
  have hb := B.bytes
  have hr := B.returns
  have hts := atoms_spec (ws := (ws_ yX5_findBest cX5_findBest 6 none)) B.pre
  have hts : ∀ w ∈ lw_all, w.before _ s = true := fun w h => hts w (List.mem_cons_of_mem _ h)
  have hown : s.vm.findClass RX5 = some m.cls := findClass_of_methodNamed B.named
  have hlocks := B.notSynchronized
  subst hsz
  have hI := FI.start hP0 hD0
  have hl := lv_entry ([.ref (am 0), .int x, .int y]) (n := 6) (Nat.le_of_ble_eq_true rfl)
  rw [lg_entry_eq]
  generalize (lg_sl ([.ref (am 0), .int x, .int y]) ++ List.replicate (6 - (lg_sl ([.ref (am 0), .int x, .int y])).length) Slot.unset).toArray = ls at hl ⊢
  have hl : lv_has ls 6 [(0, .ref (am 0)), (1, .int x), (2, .int y)] := hl
  obtain ⟨⟨hst, hS⟩, ⟨hwt, hW⟩, -⟩ := id hpi
  refine lv_iconst (v := 0) hx hb dX5_findBest_0 (by decide) ?_
  refine lv_istore_n (lv' := [(3, .int 0), (0, .ref (am 0)), (1, .int x), (2, .int y)]) hx hb dX5_findBest_1 rfl hl (by decide) rfl (fun ls hl => ?_)
  have lp_2 : ∀ (n2 : Nat) (k3 : Nat) (T1 : Nat → Nat → Int32), (k3 ≤ 201) → 201 - k3 < n2 → g5_findBest_2 P x y S Wn n2 k3 T1 = d5_findBest P T x y S Wn → ∀ (H : Heap) (locs : List Loc), FI D gcl (fA (MO dA am P T G L kt tr) s.heap.size) s.heap (MO dA am P T1 G L kt tr) H locs → ∀ (ls : Array Slot), lv_has ls 6 [(3, .int (nI k3)), (0, .ref (am 0)), (1, .int x), (2, .int y)] → W p l e (headSpec (ws_ yX5_findBest cX5_findBest 6 none) ({ frames := 3, cells := 0, slots := 0, locals := 75 } : Room)).room s m ([.ref (am 0), .int x, .int y] : List Value).toArray below meth c H locs 0 0 (MQ below (fQm (S := Unit) D (MO dA am P T G L kt tr) s.heap.size (fun _ => none) (fun _ => True) (fun _ => MO dA am P (d5_findBest P T x y S Wn) G L kt tr)) ([.ref (am 0), .int x, .int y] : List Value).toArray s 0 0 (fA (MO dA am P T G L kt tr) s.heap.size)) (F0 m 2 ls []) := by
    intro n2
    induction n2 with
    | zero => intro k3 T1 hk hM2; exact absurd hM2 (Nat.not_lt_zero _)
    | succ n2 ih2 =>
      intro k3 T1 hk hM2 hV H locs hI ls hl
      unfold g5_findBest_2 at hV
      refine lv_iload_n hx hb dX5_findBest_2 rfl (lv_at hl 0 rfl) ?_
      refine lv_sipush (v := 200) hx hb dX5_findBest_3 (by decide) ?_
      refine lv_icmp_gt (tgt := 51) hx hb dX5_findBest_6 (by decide) (fun c_6 => ?_) (fun c_6 => ?_)
      · have e_6 := (nat_lt (a := 200) (b := k3) rfl rfl (by omega) (by omega)).mp c_6
        refine lv_aload_n hx hb dX5_findBest_51 rfl (lv_at hl 1 rfl) ?_
        refine f_get hx hb hts in_X5 hown hK hI.1 0 MO_0 rfl 9 (by decide) (hts _ q1519) (fun x h => h) rfl dX5_findBest_52 ?_
        refine lv_iconst (v := 1) hx hb dX5_findBest_55 (by decide) ?_
        refine lv_isub hx hb dX5_findBest_56 ?_
        refine lv_istore_n (lv' := [(3, .int ((P 7 0) - 1)), (0, .ref (am 0)), (1, .int x), (2, .int y)]) hx hb dX5_findBest_57 rfl hl (by decide) rfl (fun ls hl => ?_)
        have lp_58 : ∀ (n58 : Nat) (x3 : Int32) (T1' : Nat → Nat → Int32), (x3 = -1 ∨ ∃ j : Nat, j < S ∧ x3 = nI j) → cN (x3 + 1) < n58 → g5_findBest_58 P x y Wn n58 x3 T1' = d5_findBest P T x y S Wn → ∀ (H : Heap) (locs : List Loc), FI D gcl (fA (MO dA am P T G L kt tr) s.heap.size) s.heap (MO dA am P T1' G L kt tr) H locs → ∀ (ls : Array Slot), lv_has ls 6 [(3, .int x3), (0, .ref (am 0)), (1, .int x), (2, .int y)] → W p l e (headSpec (ws_ yX5_findBest cX5_findBest 6 none) ({ frames := 3, cells := 0, slots := 0, locals := 75 } : Room)).room s m ([.ref (am 0), .int x, .int y] : List Value).toArray below meth c H locs 0 0 (MQ below (fQm (S := Unit) D (MO dA am P T G L kt tr) s.heap.size (fun _ => none) (fun _ => True) (fun _ => MO dA am P (d5_findBest P T x y S Wn) G L kt tr)) ([.ref (am 0), .int x, .int y] : List Value).toArray s 0 0 (fA (MO dA am P T G L kt tr) s.heap.size)) (F0 m 58 ls []) := by
          intro n58
          induction n58 with
          | zero => intro x3 T1' hx3 hM58; exact absurd hM58 (Nat.not_lt_zero _)
          | succ n58 ih58 =>
            intro x3 T1' hx3 hM58 hV H locs hI ls hl
            unfold g5_findBest_58 at hV
            refine lv_iload_n hx hb dX5_findBest_58 rfl (lv_at hl 0 rfl) ?_
            refine lv_if_lt (tgt := 146) hx hb dX5_findBest_59 (by decide) (fun c_59 => ?_) (fun c_59 => ?_)
            · have hE : T1' = d5_findBest P T x y S Wn := (by have z := hV; rw [if_pos c_59] at z; exact z)
              exact f_mretv hx hb hr hlocks hI dX5_findBest_146 () rfl trivial (congrArg (fun z => MO dA am P z G L kt tr) hE)
            · obtain ⟨j3, h_j3, rfl⟩ := hx3.resolve_left (ge0_not c_59)
              refine lv_iconst (v := 0) hx hb dX5_findBest_62 (by decide) ?_
              refine lv_istore (lv' := [(4, .int 0), (3, .int (nI j3)), (0, .ref (am 0)), (1, .int x), (2, .int y)]) hx hb dX5_findBest_63 hl (by decide) rfl (fun ls hl => ?_)
              have lp_65 : ∀ (n65 : Nat) (k4 : Nat) (T1'' : Nat → Nat → Int32), (k4 ≤ 201) → 201 - k4 < n65 → g5_findBest_65 P x y Wn j3 (g5_findBest_58 P x y Wn n58) n65 k4 T1'' = d5_findBest P T x y S Wn → ∀ (H : Heap) (locs : List Loc), FI D gcl (fA (MO dA am P T G L kt tr) s.heap.size) s.heap (MO dA am P T1'' G L kt tr) H locs → ∀ (ls : Array Slot), lv_has ls 6 [(4, .int (nI k4)), (3, .int (nI j3)), (0, .ref (am 0)), (1, .int x), (2, .int y)] → W p l e (headSpec (ws_ yX5_findBest cX5_findBest 6 none) ({ frames := 3, cells := 0, slots := 0, locals := 75 } : Room)).room s m ([.ref (am 0), .int x, .int y] : List Value).toArray below meth c H locs 0 0 (MQ below (fQm (S := Unit) D (MO dA am P T G L kt tr) s.heap.size (fun _ => none) (fun _ => True) (fun _ => MO dA am P (d5_findBest P T x y S Wn) G L kt tr)) ([.ref (am 0), .int x, .int y] : List Value).toArray s 0 0 (fA (MO dA am P T G L kt tr) s.heap.size)) (F0 m 65 ls []) := by
                intro n65
                induction n65 with
                | zero => intro k4 T1'' hk hM65; exact absurd hM65 (Nat.not_lt_zero _)
                | succ n65 ih65 =>
                  intro k4 T1'' hk hM65 hV H locs hI ls hl
                  unfold g5_findBest_65 at hV
                  refine lv_iload hx hb dX5_findBest_65 (lv_at hl 0 rfl) ?_
                  refine lv_sipush (v := 200) hx hb dX5_findBest_67 (by decide) ?_
                  refine lv_icmp_gt (tgt := 140) hx hb dX5_findBest_70 (by decide) (fun c_70 => ?_) (fun c_70 => ?_)
                  · have e_70 := (nat_lt (a := 200) (b := k4) rfl rfl (by omega) (by omega)).mp c_70
                    refine lv_iinc (v := (nI j3) + (-1)) (lv' := [(3, .int ((nI j3) + (-1))), (4, .int (nI k4)), (0, .ref (am 0)), (1, .int x), (2, .int y)]) hx hb dX5_findBest_140 hl (k := 1) rfl rfl (by decide) rfl (fun ls hl => ?_)
                    refine lv_goto (tgt := 58) hx hb dX5_findBest_143 (by decide) ?_
                    exact ih58 ((nI j3) + (-1)) T1'' (dec_or h_j3 (by omega)) (by rw [inc_m (by omega)] at hM58; rw [dec_m (by omega)]; omega) (by have z := hV; rw [if_pos c_70] at z; exact z) _ _ hI ls (lv_sub hl [0, 2, 3, 4] rfl)
                  · have e_70 := (not_congr (nat_lt (a := 200) (b := k4) rfl rfl (by omega) (by omega))).mp c_70
                    refine lv_aload_n hx hb dX5_findBest_73 rfl (lv_at hl 2 rfl) ?_
                    refine f_get hx hb hts in_X5 hown hK hI.1 0 MO_0 rfl 32 (by decide) (hts _ q1542) (fun x h => h) rfl dX5_findBest_74 ?_
                    refine lv_iload_n hx hb dX5_findBest_77 rfl (lv_at hl 1 rfl) ?_
                    refine f_aldA hx hb hK hI.1 16 9 MO_16 rfl j3 rfl (by omega) (by decide) rfl dX5_findBest_78 ?_
                    refine lv_iload hx hb dX5_findBest_79 (lv_at hl 0 rfl) ?_
                    refine lv_iconst (v := -1) hx hb dX5_findBest_81 (by decide) ?_
                    refine f_iast hx hb hK hI (30 + j3) 0 (MO_tab0 (by omega)) rfl k4 rfl (by omega) (by decide) dX5_findBest_82 (fun H locs hI => ?_)
                    have hI := hI.congr (MO_at0 (by omega))
                    refine lv_iconst (v := 0) hx hb dX5_findBest_83 (by decide) ?_
                    refine lv_istore (lv' := [(5, .int 0), (4, .int (nI k4)), (3, .int (nI j3)), (0, .ref (am 0)), (1, .int x), (2, .int y)]) hx hb dX5_findBest_84 hl (by decide) rfl (fun ls hl => ?_)
                    have lp_86 : ∀ (n86 : Nat) (k5 : Nat) (T1''' : Nat → Nat → Int32), (k5 ≤ Wn) → Wn - k5 < n86 → g5_findBest_86 P x y j3 k4 (g5_findBest_65 P x y Wn j3 (g5_findBest_58 P x y Wn n58) n65) n86 k5 T1''' = d5_findBest P T x y S Wn → ∀ (H : Heap) (locs : List Loc), FI D gcl (fA (MO dA am P T G L kt tr) s.heap.size) s.heap (MO dA am P T1''' G L kt tr) H locs → ∀ (ls : Array Slot), lv_has ls 6 [(5, .int (nI k5)), (4, .int (nI k4)), (3, .int (nI j3)), (0, .ref (am 0)), (1, .int x), (2, .int y)] → W p l e (headSpec (ws_ yX5_findBest cX5_findBest 6 none) ({ frames := 3, cells := 0, slots := 0, locals := 75 } : Room)).room s m ([.ref (am 0), .int x, .int y] : List Value).toArray below meth c H locs 0 0 (MQ below (fQm (S := Unit) D (MO dA am P T G L kt tr) s.heap.size (fun _ => none) (fun _ => True) (fun _ => MO dA am P (d5_findBest P T x y S Wn) G L kt tr)) ([.ref (am 0), .int x, .int y] : List Value).toArray s 0 0 (fA (MO dA am P T G L kt tr) s.heap.size)) (F0 m 86 ls []) := by
                      intro n86
                      induction n86 with
                      | zero => intro k5 T1''' hk2 hM86; exact absurd hM86 (Nat.not_lt_zero _)
                      | succ n86 ih86 =>
                        intro k5 T1''' hk2 hM86 hV H locs hI ls hl
                        unfold g5_findBest_86 at hV
                        refine lv_iload hx hb dX5_findBest_86 (lv_at hl 0 rfl) ?_
                        refine lv_aload_n hx hb dX5_findBest_88 rfl (lv_at hl 3 rfl) ?_
                        refine f_get hx hb hts in_X5 hown hK hI.1 0 MO_0 rfl 14 (by decide) (hts _ q1524) (fun x h => h) rfl dX5_findBest_89 ?_
                        refine lv_icmp_ge (tgt := 134) hx hb dX5_findBest_92 (by decide) (fun c_92 => ?_) (fun c_92 => ?_)
                        · have e_92 := (nat_le (a := Wn) (b := k5) hwt rfl (by omega) (by omega)).mp c_92
                          refine lv_iinc (v := nI (k4 + 1)) (lv' := [(4, .int (nI (k4 + 1))), (5, .int (nI k5)), (3, .int (nI j3)), (0, .ref (am 0)), (1, .int x), (2, .int y)]) hx hb dX5_findBest_134 hl (k := 1) rfl (nI_1 k4) (by decide) rfl (fun ls hl => ?_)
                          refine lv_goto (tgt := 65) hx hb dX5_findBest_137 (by decide) ?_
                          exact ih65 (k4 + 1) T1''' (by omega) (by omega) (by have z := hV; rw [if_pos c_92] at z; exact z) _ _ hI ls (lv_sub hl [0, 2, 3, 4, 5] rfl)
                        · have e_92 := (not_congr (nat_le (a := Wn) (b := k5) hwt rfl (by omega) (by omega))).mp c_92
                          refine lv_aload_n hx hb dX5_findBest_95 rfl (lv_at hl 3 rfl) ?_
                          refine lv_iload hx hb dX5_findBest_96 (lv_at hl 0 rfl) ?_
                          refine lv_iload_n hx hb dX5_findBest_98 rfl (lv_at hl 2 rfl) ?_
                          refine lv_iload hx hb dX5_findBest_99 (lv_at hl 1 rfl) ?_
                          refine f_pV hx hb hml hown hts (m5_canBe l D dA am P T1''' G L kt tr  k5 j3 (nI k4) (by omega) (by omega)) (cwV 3 hts (lw_V q1851 q1853 qs55 q79 q1854) rfl rfl rfl (by decide +kernel) ⟨Nat.le_of_ble_eq_true rfl, Nat.le_of_ble_eq_true rfl⟩) hG hI.1 f_id MO_0 rfl rfl hl.1 rfl (Nat.le_of_ble_eq_true rfl) dX5_findBest_101 ⟨Nat.zero_le _, Nat.zero_le _⟩ ?_
                          refine lv_if_eq (tgt := 128) hx hb dX5_findBest_104 (by decide) (fun c_104 => ?_) (fun c_104 => ?_)
                          · refine lv_iinc (v := nI (k5 + 1)) (lv' := [(5, .int (nI (k5 + 1))), (4, .int (nI k4)), (3, .int (nI j3)), (0, .ref (am 0)), (1, .int x), (2, .int y)]) hx hb dX5_findBest_128 hl (k := 0) rfl (nI_1 k5) (by decide) rfl (fun ls hl => ?_)
                            refine lv_goto (tgt := 86) hx hb dX5_findBest_131 (by decide) ?_
                            exact ih86 (k5 + 1) T1''' (by omega) (by omega) (by have z := hV; rw [if_neg c_92, if_pos c_104] at z; exact z) _ _ hI ls (lv_sub hl [0, 1, 2, 3, 4, 5] rfl)
                          · obtain ⟨tb, htb, hab⟩ := canBe_arms hpi (show k5 < Wn by omega) h_j3 (show k4 ≤ 200 by omega) c_104
                            refine lv_aload_n hx hb dX5_findBest_107 rfl (lv_at hl 3 rfl) ?_
                            refine lv_iload hx hb dX5_findBest_108 (lv_at hl 0 rfl) ?_
                            refine lv_iload_n hx hb dX5_findBest_110 rfl (lv_at hl 2 rfl) ?_
                            refine f_pV hx hb hml hown hts (m5_slips l D dA am P T1''' G L kt tr  k5 j3 (by omega) (by omega)) (cwV 2 hts (lw_V q1672 q1674 qs35 q79 q1675) rfl rfl rfl (by decide +kernel) ⟨Nat.le_of_ble_eq_true rfl, Nat.le_of_ble_eq_true rfl⟩) hG hI.1 f_id MO_0 rfl rfl hl.1 rfl (Nat.le_of_ble_eq_true rfl) dX5_findBest_111 ⟨Nat.zero_le _, Nat.zero_le _⟩ ?_
                            refine lv_iload_n hx hb dX5_findBest_114 rfl (lv_at hl 4 rfl) ?_
                            refine lv_icmp_gt (tgt := 128) hx hb dX5_findBest_115 (by decide) (fun c_115 => ?_) (fun c_115 => ?_)
                            · refine lv_iinc (v := nI (k5 + 1)) (lv' := [(5, .int (nI (k5 + 1))), (4, .int (nI k4)), (3, .int (nI j3)), (0, .ref (am 0)), (1, .int x), (2, .int y)]) hx hb dX5_findBest_128 hl (k := 0) rfl (nI_1 k5) (by decide) rfl (fun ls hl => ?_)
                              refine lv_goto (tgt := 86) hx hb dX5_findBest_131 (by decide) ?_
                              exact ih86 (k5 + 1) T1''' (by omega) (by omega) (by have z := hV; rw [if_neg c_92, if_neg c_104, if_pos c_115] at z; exact z) _ _ hI ls (lv_sub hl [0, 1, 2, 3, 4, 5] rfl)
                            · refine lv_aload_n hx hb dX5_findBest_118 rfl (lv_at hl 3 rfl) ?_
                              refine lv_iload hx hb dX5_findBest_119 (lv_at hl 0 rfl) ?_
                              refine lv_iload_n hx hb dX5_findBest_121 rfl (lv_at hl 2 rfl) ?_
                              refine lv_iload hx hb dX5_findBest_122 (lv_at hl 1 rfl) ?_
                              refine lv_iload_n hx hb dX5_findBest_124 rfl (lv_at hl 5 rfl) ?_
                              refine f_mV0v hx hb hml hown hts (m5_tryWay l D dA am P T1''' G L kt tr _ tb k5 j3 k4 y (by omega) (by omega) (by omega) hab htb) (cwV 4 hts (lw_V q1899 q1901 qs61 q79 q1902) rfl rfl rfl (by decide +kernel) ⟨Nat.le_of_ble_eq_true rfl, Nat.le_of_ble_eq_true rfl⟩) hG hI MO_0 rfl rfl hl.1 rfl (Nat.le_of_ble_eq_true rfl) dX5_findBest_125 ⟨Nat.zero_le _, Nat.zero_le _⟩ (fun _ H locs _ hI => ?_)
                              refine lv_iinc (v := nI (k5 + 1)) (lv' := [(5, .int (nI (k5 + 1))), (4, .int (nI k4)), (3, .int (nI j3)), (0, .ref (am 0)), (1, .int x), (2, .int y)]) hx hb dX5_findBest_128 hl (k := 0) rfl (nI_1 k5) (by decide) rfl (fun ls hl => ?_)
                              refine lv_goto (tgt := 86) hx hb dX5_findBest_131 (by decide) ?_
                              exact ih86 (k5 + 1) (d5_tryWay P T1''' k5 j3 k4 y) (by omega) (by omega) (by have z := hV; rw [if_neg c_92, if_neg c_104, if_neg c_115] at z; exact z) _ _ hI ls (lv_sub hl [0, 1, 2, 3, 4, 5] rfl)
                    exact lp_86 (Wn + 1) 0 (up T1'' j3 k4 (-1)) (by omega) (by omega) (by have z := hV; rw [if_neg c_70] at z; exact z) _ _ hI ls (lv_sub hl [0, 1, 2, 3, 4, 5] rfl)
              exact lp_65 202 0 T1' (by omega) (by omega) (by have z := hV; (try simp only [cN_nI (show j3 < 65536 by omega)] at z); rw [if_neg c_59] at z; exact z) _ _ hI ls (lv_sub hl [0, 1, 2, 3, 4] rfl)
        exact lp_58 (S + 1) ((P 7 0) - 1) T1 (by rw [hst]; exact pred_or (by omega)) (by rw [hst, pred_m (by omega)]; omega) (by have z := hV; rw [if_pos c_6] at z; exact z) _ _ hI ls (lv_sub hl [0, 1, 2, 3] rfl)
      · have e_6 := (not_congr (nat_lt (a := 200) (b := k3) rfl rfl (by omega) (by omega))).mp c_6
        refine lv_aload_n hx hb dX5_findBest_9 rfl (lv_at hl 1 rfl) ?_
        refine f_get hx hb hts in_X5 hown hK hI.1 0 MO_0 rfl 32 (by decide) (hts _ q1542) (fun x h => h) rfl dX5_findBest_10 ?_
        refine lv_aload_n hx hb dX5_findBest_13 rfl (lv_at hl 1 rfl) ?_
        refine f_get hx hb hts in_X5 hown hK hI.1 0 MO_0 rfl 9 (by decide) (hts _ q1519) (fun x h => h) rfl dX5_findBest_14 ?_
        refine f_aldA hx hb hK hI.1 16 9 MO_16 rfl S hst (by omega) (by decide) rfl dX5_findBest_17 ?_
        refine lv_iload_n hx hb dX5_findBest_18 rfl (lv_at hl 0 rfl) ?_
        refine lv_iconst (v := 0) hx hb dX5_findBest_19 (by decide) ?_
        refine f_iast hx hb hK hI (30 + S) 0 (MO_tab0 (by omega)) rfl k3 rfl (by omega) (by decide) dX5_findBest_20 (fun H locs hI => ?_)
        have hI := hI.congr (MO_at0 (by omega))
        refine lv_aload_n hx hb dX5_findBest_21 rfl (lv_at hl 1 rfl) ?_
        refine f_get hx hb hts in_X5 hown hK hI.1 0 MO_0 rfl 33 (by decide) (hts _ q1543) (fun x h => h) rfl dX5_findBest_22 ?_
        refine lv_aload_n hx hb dX5_findBest_25 rfl (lv_at hl 1 rfl) ?_
        refine f_get hx hb hts in_X5 hown hK hI.1 0 MO_0 rfl 9 (by decide) (hts _ q1519) (fun x h => h) rfl dX5_findBest_26 ?_
        refine f_aldA hx hb hK hI.1 17 9 MO_17 rfl S hst (by omega) (by decide) rfl dX5_findBest_29 ?_
        refine lv_iload_n hx hb dX5_findBest_30 rfl (lv_at hl 0 rfl) ?_
        refine lv_iconst (v := 0) hx hb dX5_findBest_31 (by decide) ?_
        refine f_iast hx hb hK hI (40 + S) 0 (MO_tab1 (by omega)) rfl k3 rfl (by omega) (by decide) dX5_findBest_32 (fun H locs hI => ?_)
        have hI := hI.congr (MO_at1 (by omega))
        refine lv_aload_n hx hb dX5_findBest_33 rfl (lv_at hl 1 rfl) ?_
        refine f_get hx hb hts in_X5 hown hK hI.1 0 MO_0 rfl 34 (by decide) (hts _ q1544) (fun x h => h) rfl dX5_findBest_34 ?_
        refine lv_aload_n hx hb dX5_findBest_37 rfl (lv_at hl 1 rfl) ?_
        refine f_get hx hb hts in_X5 hown hK hI.1 0 MO_0 rfl 9 (by decide) (hts _ q1519) (fun x h => h) rfl dX5_findBest_38 ?_
        refine f_aldA hx hb hK hI.1 18 9 MO_18 rfl S hst (by omega) (by decide) rfl dX5_findBest_41 ?_
        refine lv_iload_n hx hb dX5_findBest_42 rfl (lv_at hl 0 rfl) ?_
        refine lv_iconst (v := 0) hx hb dX5_findBest_43 (by decide) ?_
        refine f_iast hx hb hK hI (50 + S) 0 (MO_tab2 (by omega)) rfl k3 rfl (by omega) (by decide) dX5_findBest_44 (fun H locs hI => ?_)
        have hI := hI.congr (MO_at2 (by omega))
        refine lv_iinc (v := nI (k3 + 1)) (lv' := [(3, .int (nI (k3 + 1))), (0, .ref (am 0)), (1, .int x), (2, .int y)]) hx hb dX5_findBest_45 hl (k := 0) rfl (nI_1 k3) (by decide) rfl (fun ls hl => ?_)
        refine lv_goto (tgt := 2) hx hb dX5_findBest_48 (by decide) ?_
        exact ih2 (k3 + 1) (up (up (up T1 S k3 0) (10 + S) k3 0) (20 + S) k3 0) (by omega) (by omega) (by have z := hV; rw [if_neg c_6] at z; exact z) _ _ hI ls (lv_sub hl [0, 1, 2, 3] rfl)
  exact lp_2 202 0 T (by omega) (by omega) (by unfold d5_findBest; rfl) _ _ hI ls (lv_sub hl [0, 1, 2, 3] rfl)
