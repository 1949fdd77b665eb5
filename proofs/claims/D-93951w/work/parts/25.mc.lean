/-! THE REFERENCE: told climbs, weeks -/
def g5_goThrough_12 (P : Nat → Nat → Int32) (L : Nat → Nat → Int64) (i : Nat)  : Nat → Nat → (Nat → Int32) → Int32 × (Nat → Int32)
  | 0, _, _ => (0, fun _ => 0)
  | n + 1, k2, G1 => if (P 7 0) ≤ (nI k2) then ((-1), G1) else (if (d5_isWay P (L i k2)) = 0 then (nI k2, G1) else (if (d5_canBe P (cN ((L i k2).toInt32)) k2 (G1 8)) = 0 then (nI k2, G1) else g5_goThrough_12 P L i n (k2 + 1) (upd G1 8 (d5_armsBehind P (cN ((L i k2).toInt32)) k2 (G1 8)))))
def d5_goThrough (P : Nat → Nat → Int32) (G : Nat → Int32) (L : Nat → Nat → Int64) (i : Nat) (S : Nat) : Int32 × (Nat → Int32) := g5_goThrough_12 P L i (S + 1) 0 (upd G 8 (P 6 2))
set_option maxHeartbeats 4000000 in
set_option maxRecDepth 100000 in
theorem m5_goThrough (l : Launch) (D : va_G) (dA : Nat → ClassId) (am : Nat → Nat) (P T : Nat → Nat → Int32) (G : Nat → Int32) (L : Nat → Nat → Int64) (kt tr : Option Nat) (sz : Nat) (S : Nat) (Wn : Nat) (i : Nat) (h_i : i < 8) (hst : P 7 0 = nI S) (hS : S ≤ 9) (hwt : P 7 1 = nI Wn) (hW : Wn ≤ 6) : Met l yX5_goThrough (ws_ yX5_goThrough cX5_goThrough 3 (some .int)) ({ frames := 2, cells := 0, slots := 0, locals := 47 } : Room) (fPm D dA (MO dA am P T G L kt tr) sz [.ref (am 0), .int (nI i)]) (fQm (S := Unit) D (MO dA am P T G L kt tr) sz (fun _ => some (.int ((d5_goThrough P G L i S).1))) (fun _ => True) (fun _ => MO dA am P T ((d5_goThrough P G L i S).2) L kt tr)) 0 0 (fA (MO dA am P T G L kt tr) sz) := by
  refine Met.ofW (cc := cX5_goThrough) (maxL := 3) (ret := (some .int)) (by decide) rfl ?_
  intro p e s m args below meth c s₁ B hml hv
  obtain ⟨rfl, hsz, hP0, hG, hD0⟩ := hv
  have hK := hG.1
  have hx := B.exec
  have hb := B.bytes
  have hr := B.returns
  have hts := atoms_spec (ws := (ws_ yX5_goThrough cX5_goThrough 3 (some .int))) B.pre
  have hts : ∀ w ∈ lw_all, w.before _ s = true := fun w h => hts w (List.mem_cons_of_mem _ h)
  have hown : s.vm.findClass RX5 = some m.cls := findClass_of_methodNamed B.named
  have hlocks := B.notSynchronized
  subst hsz
  have hI := FI.start hP0 hD0
  have hl := lv_entry ([.ref (am 0), .int (nI i)]) (n := 3) (Nat.le_of_ble_eq_true rfl)
  rw [lg_entry_eq]
  generalize (lg_sl ([.ref (am 0), .int (nI i)]) ++ List.replicate (3 - (lg_sl ([.ref (am 0), .int (nI i)])).length) Slot.unset).toArray = ls at hl ⊢
  have hl : lv_has ls 3 [(0, .ref (am 0)), (1, .int (nI i))] := hl
  refine lv_aload_n hx hb dX5_goThrough_0 rfl (lv_at hl 0 rfl) ?_
  refine lv_aload_n hx hb dX5_goThrough_1 rfl (lv_at hl 0 rfl) ?_
  refine f_get hx hb hts in_X5 hown hK hI.1 0 MO_0 rfl 17 (by decide) (hts _ q1527) (fun x h => h) rfl dX5_goThrough_2 ?_
  refine lv_iconst (v := 2) hx hb dX5_goThrough_5 (by decide) ?_
  refine f_iald hx hb hK hI.1 15 0 MO_15 rfl 2 rfl (by omega) (by decide) dX5_goThrough_6 ?_
  refine f_put hx hb hts in_X5 tyX5 tyX5_ok nmX5 hown hK hI 0 MO_0 rfl 31 (by decide) (hts _ q1541) (fun x h => h) rfl (ttyX5_31) rfl rfl (Nat.le_of_ble_eq_true rfl) dX5_goThrough_7 (fun H locs hI => ?_)
  have hI := hI.congr MO_f31
  refine lv_iconst (v := 0) hx hb dX5_goThrough_10 (by decide) ?_
  refine lv_istore_n (lv' := [(2, .int 0), (0, .ref (am 0)), (1, .int (nI i))]) hx hb dX5_goThrough_11 rfl hl (by decide) rfl (fun ls hl => ?_)
  have lp_12 : ∀ (n12 : Nat) (k2 : Nat) (G1 : Nat → Int32), (k2 ≤ S) → S - k2 < n12 → g5_goThrough_12 P L i n12 k2 G1 = d5_goThrough P G L i S → ∀ (H : Heap) (locs : List Loc), FI D gcl (fA (MO dA am P T G L kt tr) s.heap.size) s.heap (MO dA am P T G1 L kt tr) H locs → ∀ (ls : Array Slot), lv_has ls 3 [(2, .int (nI k2)), (0, .ref (am 0)), (1, .int (nI i))] → W p l e (headSpec (ws_ yX5_goThrough cX5_goThrough 3 (some .int)) ({ frames := 2, cells := 0, slots := 0, locals := 47 } : Room)).room s m ([.ref (am 0), .int (nI i)] : List Value).toArray below meth c H locs 0 0 (MQ below (fQm (S := Unit) D (MO dA am P T G L kt tr) s.heap.size (fun _ => some (.int ((d5_goThrough P G L i S).1))) (fun _ => True) (fun _ => MO dA am P T ((d5_goThrough P G L i S).2) L kt tr)) ([.ref (am 0), .int (nI i)] : List Value).toArray s 0 0 (fA (MO dA am P T G L kt tr) s.heap.size)) (F0 m 12 ls []) := by
    intro n12
    induction n12 with
    | zero => intro k2 G1 hk hM12; exact absurd hM12 (Nat.not_lt_zero _)
    | succ n12 ih12 =>
      intro k2 G1 hk hM12 hV H locs hI ls hl
      unfold g5_goThrough_12 at hV
      refine lv_iload_n hx hb dX5_goThrough_12 rfl (lv_at hl 0 rfl) ?_
      refine lv_aload_n hx hb dX5_goThrough_13 rfl (lv_at hl 1 rfl) ?_
      refine f_get hx hb hts in_X5 hown hK hI.1 0 MO_0 rfl 9 (by decide) (hts _ q1519) (fun x h => h) rfl dX5_goThrough_14 ?_
      refine lv_icmp_ge (tgt := 86) hx hb dX5_goThrough_17 (by decide) (fun c_17 => ?_) (fun c_17 => ?_)
      · have e_17 := (nat_le (a := S) (b := k2) hst rfl (by omega) (by omega)).mp c_17
        refine lv_iconst (v := -1) hx hb dX5_goThrough_86 (by decide) ?_
        have hE : ((-1), G1) = d5_goThrough P G L i S := (by have z := hV; rw [if_pos c_17] at z; exact z)
        exact f_mreti hx hb hr hlocks hI dX5_goThrough_87 () (congrArg (fun z => some (Value.int z.1)) hE) trivial (congrArg (fun z => MO dA am P T z.2 L kt tr) hE)
      · have e_17 := (not_congr (nat_le (a := S) (b := k2) hst rfl (by omega) (by omega))).mp c_17
        refine lv_aload_n hx hb dX5_goThrough_20 rfl (lv_at hl 1 rfl) ?_
        refine lv_aload_n hx hb dX5_goThrough_21 rfl (lv_at hl 1 rfl) ?_
        refine f_get hx hb hts in_X5 hown hK hI.1 0 MO_0 rfl 3 (by decide) (hts _ q1513) (fun x h => h) rfl dX5_goThrough_22 ?_
        refine lv_iload_n hx hb dX5_goThrough_25 rfl (lv_at hl 2 rfl) ?_
        refine f_aldA hx hb hK hI.1 4 10 MO_4 rfl i rfl (by omega) (by decide) rfl dX5_goThrough_26 ?_
        refine lv_iload_n hx hb dX5_goThrough_27 rfl (lv_at hl 0 rfl) ?_
        refine f_lald hx hb hK hI.1 (20 + i) 3 (MO_row (by omega)) rfl k2 rfl (by omega) (by decide) dX5_goThrough_28 ?_
        refine f_pV hx hb hml hown hts (m5_isWay l D dA am P T G1 L kt tr  (L i k2) ) (cwV 1 hts (lw_V q1660 q1662 qs34 q79 q1663) rfl rfl rfl (by decide +kernel) ⟨Nat.le_of_ble_eq_true rfl, Nat.le_of_ble_eq_true rfl⟩) hG hI.1 f_id MO_0 rfl rfl hl.1 rfl (Nat.le_of_ble_eq_true rfl) dX5_goThrough_29 ⟨Nat.zero_le _, Nat.zero_le _⟩ ?_
        refine lv_if_eq (tgt := 56) hx hb dX5_goThrough_32 (by decide) (fun c_32 => ?_) (fun c_32 => ?_)
        · refine lv_iload_n hx hb dX5_goThrough_56 rfl (lv_at hl 0 rfl) ?_
          have hE : (nI k2, G1) = d5_goThrough P G L i S := (by have z := hV; rw [if_neg c_17, if_pos c_32] at z; exact z)
          exact f_mreti hx hb hr hlocks hI dX5_goThrough_57 () (congrArg (fun z => some (Value.int z.1)) hE) trivial (congrArg (fun z => MO dA am P T z.2 L kt tr) hE)
        · obtain ⟨jw, hjw, hjL⟩ := isWay_nat c_32 hwt hW
          have hjw2 : (L i k2).toInt32 = nI jw := l2i_nat hjL (by omega)
          refine lv_aload_n hx hb dX5_goThrough_35 rfl (lv_at hl 1 rfl) ?_
          refine lv_aload_n hx hb dX5_goThrough_36 rfl (lv_at hl 1 rfl) ?_
          refine f_get hx hb hts in_X5 hown hK hI.1 0 MO_0 rfl 3 (by decide) (hts _ q1513) (fun x h => h) rfl dX5_goThrough_37 ?_
          refine lv_iload_n hx hb dX5_goThrough_40 rfl (lv_at hl 2 rfl) ?_
          refine f_aldA hx hb hK hI.1 4 10 MO_4 rfl i rfl (by omega) (by decide) rfl dX5_goThrough_41 ?_
          refine lv_iload_n hx hb dX5_goThrough_42 rfl (lv_at hl 0 rfl) ?_
          refine f_lald hx hb hK hI.1 (20 + i) 3 (MO_row (by omega)) rfl k2 rfl (by omega) (by decide) dX5_goThrough_43 ?_
          refine lv_l2i (v := (L i k2).toInt32) hx hb dX5_goThrough_44 rfl ?_
          refine lv_iload_n hx hb dX5_goThrough_45 rfl (lv_at hl 0 rfl) ?_
          refine lv_aload_n hx hb dX5_goThrough_46 rfl (lv_at hl 1 rfl) ?_
          refine f_get hx hb hts in_X5 hown hK hI.1 0 MO_0 rfl 31 (by decide) (hts _ q1541) (fun x h => h) rfl dX5_goThrough_47 ?_
          refine f_pV hx hb hml hown hts (m5_canBe l D dA am P T G1 L kt tr  jw k2 (G1 8) (by omega) (by omega)) (cwV 3 hts (lw_V q1851 q1853 qs55 q79 q1854) rfl rfl rfl (by decide +kernel) ⟨Nat.le_of_ble_eq_true rfl, Nat.le_of_ble_eq_true rfl⟩) hG hI.1 f_id MO_0 rfl rfl hl.1 (by rw [← hjw2]; rfl) (Nat.le_of_ble_eq_true rfl) dX5_goThrough_50 ⟨Nat.zero_le _, Nat.zero_le _⟩ ?_
          refine lv_if_ne (tgt := 58) hx hb dX5_goThrough_53 (by decide) (fun c_53 => ?_) (fun c_53 => ?_)
          · refine lv_aload_n hx hb dX5_goThrough_58 rfl (lv_at hl 1 rfl) ?_
            refine lv_aload_n hx hb dX5_goThrough_59 rfl (lv_at hl 1 rfl) ?_
            refine lv_aload_n hx hb dX5_goThrough_60 rfl (lv_at hl 1 rfl) ?_
            refine f_get hx hb hts in_X5 hown hK hI.1 0 MO_0 rfl 3 (by decide) (hts _ q1513) (fun x h => h) rfl dX5_goThrough_61 ?_
            refine lv_iload_n hx hb dX5_goThrough_64 rfl (lv_at hl 2 rfl) ?_
            refine f_aldA hx hb hK hI.1 4 10 MO_4 rfl i rfl (by omega) (by decide) rfl dX5_goThrough_65 ?_
            refine lv_iload_n hx hb dX5_goThrough_66 rfl (lv_at hl 0 rfl) ?_
            refine f_lald hx hb hK hI.1 (20 + i) 3 (MO_row (by omega)) rfl k2 rfl (by omega) (by decide) dX5_goThrough_67 ?_
            refine lv_l2i (v := (L i k2).toInt32) hx hb dX5_goThrough_68 rfl ?_
            refine lv_iload_n hx hb dX5_goThrough_69 rfl (lv_at hl 0 rfl) ?_
            refine lv_aload_n hx hb dX5_goThrough_70 rfl (lv_at hl 1 rfl) ?_
            refine f_get hx hb hts in_X5 hown hK hI.1 0 MO_0 rfl 31 (by decide) (hts _ q1541) (fun x h => h) rfl dX5_goThrough_71 ?_
            refine f_pV hx hb hml hown hts (m5_armsBehind l D dA am P T G1 L kt tr  jw k2 (G1 8) (by omega) (by omega)) (cwV 3 hts (lw_V q1875 q1877 qs58 q79 q1878) rfl rfl rfl (by decide +kernel) ⟨Nat.le_of_ble_eq_true rfl, Nat.le_of_ble_eq_true rfl⟩) hG hI.1 f_id MO_0 rfl rfl hl.1 (by rw [← hjw2]; rfl) (Nat.le_of_ble_eq_true rfl) dX5_goThrough_74 ⟨Nat.zero_le _, Nat.zero_le _⟩ ?_
            refine f_put hx hb hts in_X5 tyX5 tyX5_ok nmX5 hown hK hI 0 MO_0 rfl 31 (by decide) (hts _ q1541) (fun x h => h) rfl (ttyX5_31) rfl rfl (Nat.le_of_ble_eq_true rfl) dX5_goThrough_77 (fun H locs hI => ?_)
            have hI := hI.congr MO_f31
            refine lv_iinc (v := nI (k2 + 1)) (lv' := [(2, .int (nI (k2 + 1))), (0, .ref (am 0)), (1, .int (nI i))]) hx hb dX5_goThrough_80 hl (k := 0) rfl (nI_1 k2) (by decide) rfl (fun ls hl => ?_)
            refine lv_goto (tgt := 12) hx hb dX5_goThrough_83 (by decide) ?_
            exact ih12 (k2 + 1) (upd G1 8 (d5_armsBehind P jw k2 (G1 8))) (by omega) (by omega) (by have z := hV; (try simp only [cN_of hjw2 (show jw < 65536 by omega)] at z); rw [if_neg c_17, if_neg c_32, if_neg c_53] at z; exact z) _ _ hI ls (lv_sub hl [0, 1, 2] rfl)
          · refine lv_iload_n hx hb dX5_goThrough_56 rfl (lv_at hl 0 rfl) ?_
            have hE : (nI k2, G1) = d5_goThrough P G L i S := (by have z := hV; (try simp only [cN_of hjw2 (show jw < 65536 by omega)] at z); rw [if_neg c_17, if_neg c_32, if_pos c_53] at z; exact z)
            exact f_mreti hx hb hr hlocks hI dX5_goThrough_57 () (congrArg (fun z => some (Value.int z.1)) hE) trivial (congrArg (fun z => MO dA am P T z.2 L kt tr) hE)
  exact lp_12 (S + 1) 0 (upd G 8 (P 6 2)) (by omega) (by omega) (by unfold d5_goThrough; rfl) _ _ hI ls (lv_sub hl [0, 1, 2] rfl)
theorem goThrough_ok {P : Nat → Nat → Int32} {G : Nat → Int32} {L : Nat → Nat → Int64} {i S Wn : Nat} (hst : P 7 0 = nI S) (hS : S ≤ 9) (hwt : P 7 1 = nI Wn) (hW : Wn ≤ 6) (h : (d5_goThrough P G L i S).1 = -1) : ∀ k, k < S → ∃ w : Nat, w < Wn ∧ (L i k).toInt = w ∧ ¬ d5_isWay P (L i k) = 0 := by
  have key : ∀ (n k : Nat) (G1 : Nat → Int32), k ≤ S → S - k < n → (g5_goThrough_12 P L i n k G1).1 = -1 → ∀ k', k ≤ k' → k' < S → ∃ w : Nat, w < Wn ∧ (L i k').toInt = w ∧ ¬ d5_isWay P (L i k') = 0 := by
    intro n
    induction n with
    | zero => intro k G1 _ h1; exact absurd h1 (Nat.not_lt_zero _)
    | succ n ih =>
      intro k G1 hk h1 h2 k' hk1 hk2
      unfold g5_goThrough_12 at h2
      have c1 : ¬ P 7 0 ≤ nI k := by rw [hst]; exact nI_ge (by omega) (by omega)
      rw [if_neg c1] at h2
      have hne : ¬ nI k = -1 := by
        intro z
        have z2 := nI_toInt (n := k) (by omega)
        rw [z] at z2
        have z3 : (-1 : Int32).toInt = -1 := by decide
        omega
      by_cases c2 : d5_isWay P (L i k) = 0
      · rw [if_pos c2] at h2; exact absurd h2 hne
      · rw [if_neg c2] at h2
        split at h2
        · exact absurd h2 hne
        · rcases Nat.eq_or_lt_of_le hk1 with e | e
          · subst e
            obtain ⟨w, hw, hL⟩ := isWay_nat c2 hwt hW
            exact ⟨w, hw, hL, c2⟩
          · exact ih (k + 1) _ (by omega) (by omega) h2 k' (by omega) hk2
  intro k hk
  exact key (S + 1) 0 _ (by omega) (by omega) h k (by omega) hk
theorem in_natm {x : Int32} {m M : Int64} {a n : Nat} (h : ¬ d5_in x.toInt64 m M = 0) (hm : m.toInt = a) (hM : M.toInt = n) (hn : n < 65536) : ∃ i : Nat, (a ≤ i ∧ i < n + 1) ∧ x = nI i := by
  obtain ⟨h1, h2⟩ := in_iff.mp h
  rw [Int32.toInt_toInt64] at h1 h2
  rw [hM] at h2
  rw [hm] at h1
  exact ⟨x.toInt.toNat, by omega, nI_ofInt (by omega) (by omega)⟩
def d5_judge (P : Nat → Nat → Int32) (G : Nat → Int32) (L : Nat → Nat → Int64) (x : Int32) (S : Nat) : Int32 × (Nat → Nat → Int32) × (Nat → Int32) := if ((d5_noClimb P x).1) = 0 then ((d5_goThrough P G L (cN x) S).1, P, (d5_goThrough P G L (cN x) S).2) else ((d5_noClimb P x).1, (d5_noClimb P x).2, G)
set_option maxHeartbeats 4000000 in
set_option maxRecDepth 100000 in
theorem m5_judge (l : Launch) (D : va_G) (dA : Nat → ClassId) (am : Nat → Nat) (P T : Nat → Nat → Int32) (G : Nat → Int32) (L : Nat → Nat → Int64) (kt tr : Option Nat) (sz : Nat) (S : Nat) (Wn : Nat) (x : Int32) (hst : P 7 0 = nI S) (hS : S ≤ 9) (hwt : P 7 1 = nI Wn) (hW : Wn ≤ 6) : Met l yX5_judge (ws_ yX5_judge cX5_judge 3 (some .int)) ({ frames := 3, cells := 0, slots := 0, locals := 69 } : Room) (fPm D dA (MO dA am P T G L kt tr) sz [.ref (am 0), .int x]) (fQm (S := Unit) D (MO dA am P T G L kt tr) sz (fun _ => some (.int ((d5_judge P G L x S).1))) (fun _ => True) (fun _ => MO dA am ((d5_judge P G L x S).2.1) T ((d5_judge P G L x S).2.2) L kt tr)) 0 0 (fA (MO dA am P T G L kt tr) sz) := by
  refine Met.ofW (cc := cX5_judge) (maxL := 3) (ret := (some .int)) (by decide) rfl ?_
  intro p e s m args below meth c s₁ B hml hv
  obtain ⟨rfl, hsz, hP0, hG, hD0⟩ := hv
  have hK := hG.1
  have hx := B.exec
  have hb := B.bytes
  have hr := B.returns
  have hts := atoms_spec (ws := (ws_ yX5_judge cX5_judge 3 (some .int))) B.pre
  have hts : ∀ w ∈ lw_all, w.before _ s = true := fun w h => hts w (List.mem_cons_of_mem _ h)
  have hown : s.vm.findClass RX5 = some m.cls := findClass_of_methodNamed B.named
  have hlocks := B.notSynchronized
  subst hsz
  have hI := FI.start hP0 hD0
  have hl := lv_entry ([.ref (am 0), .int x]) (n := 3) (Nat.le_of_ble_eq_true rfl)
  rw [lg_entry_eq]
  generalize (lg_sl ([.ref (am 0), .int x]) ++ List.replicate (3 - (lg_sl ([.ref (am 0), .int x])).length) Slot.unset).toArray = ls at hl ⊢
  have hl : lv_has ls 3 [(0, .ref (am 0)), (1, .int x)] := hl
  refine lv_aload_n hx hb dX5_judge_0 rfl (lv_at hl 0 rfl) ?_
  refine lv_iload_n hx hb dX5_judge_1 rfl (lv_at hl 1 rfl) ?_
  refine f_mV0 hx hb hml hown hts (m5_noClimb l D dA am P T G L kt tr _  x ) (cwV 1 hts (lw_V q1867 q1869 qs56 q79 q1870) rfl rfl rfl (by decide +kernel) ⟨Nat.le_of_ble_eq_true rfl, Nat.le_of_ble_eq_true rfl⟩) hG hI MO_0 rfl rfl hl.1 rfl (Nat.le_of_ble_eq_true rfl) dX5_judge_2 ⟨Nat.zero_le _, Nat.zero_le _⟩ (fun _ H locs _ hI => ?_)
  refine lv_istore_n (lv' := [(2, .int ((d5_noClimb P x).1)), (0, .ref (am 0)), (1, .int x)]) hx hb dX5_judge_5 rfl hl (by decide) rfl (fun ls hl => ?_)
  refine lv_iload_n hx hb dX5_judge_6 rfl (lv_at hl 0 rfl) ?_
  refine lv_if_eq (tgt := 14) hx hb dX5_judge_7 (by decide) (fun (c_7 : ((d5_noClimb P x).1) = 0) => ?_) (fun (c_7 : ¬ (((d5_noClimb P x).1) = 0)) => ?_)
  · obtain ⟨hno, jx, h_jx, rfl, hno2⟩ := noClimb_ok c_7
    simp only [hno] at hI
    refine lv_aload_n hx hb dX5_judge_14 rfl (lv_at hl 1 rfl) ?_
    refine lv_iload_n hx hb dX5_judge_15 rfl (lv_at hl 2 rfl) ?_
    refine f_mV0 hx hb hml hown hts (m5_goThrough l D dA am P T G L kt tr _ S Wn jx (by omega) hst hS hwt hW) (cwV 1 hts (lw_V q1871 q1873 qs57 q79 q1874) rfl rfl rfl (by decide +kernel) ⟨Nat.le_of_ble_eq_true rfl, Nat.le_of_ble_eq_true rfl⟩) hG hI MO_0 rfl rfl hl.1 rfl (Nat.le_of_ble_eq_true rfl) dX5_judge_16 ⟨Nat.zero_le _, Nat.zero_le _⟩ (fun _ H locs _ hI => ?_)
    have hE : ((d5_goThrough P G L jx S).1, P, (d5_goThrough P G L jx S).2) = d5_judge P G L (nI jx) S := (by unfold d5_judge; (try simp only [cN_nI (show jx < 65536 by omega)]); rw [if_pos c_7])
    exact f_mreti hx hb hr hlocks hI dX5_judge_19 () (congrArg (fun z => some (Value.int z.1)) hE) trivial (congrArg (fun z => MO dA am z.2.1 T z.2.2 L kt tr) hE)
  · refine lv_iload_n hx hb dX5_judge_10 rfl (lv_at hl 0 rfl) ?_
    refine lv_goto (tgt := 19) hx hb dX5_judge_11 (by decide) ?_
    have hE : ((d5_noClimb P x).1, (d5_noClimb P x).2, G) = d5_judge P G L x S := (by unfold d5_judge; rw [if_neg c_7])
    exact f_mreti hx hb hr hlocks hI dX5_judge_19 () (congrArg (fun z => some (Value.int z.1)) hE) trivial (congrArg (fun z => MO dA am z.2.1 T z.2.2 L kt tr) hE)
def g5_told_56 (P : Nat → Nat → Int32) (G : Nat → Int32) (L : Nat → Nat → Int64) (S : Nat) (jy : Nat) (jx : Nat)  : Nat → Nat → Int32 → Int32 → Int32 × (Nat → Nat → Int32) × (Nat → Int32)
  | 0, _, _, _ => (0, fun _ _ => 0, fun _ => 0)
  | n + 1, k6, x5, x4 => if (P 7 0) ≤ (nI k6) then (if 2 ≤ (nI jy) then (if 4 ≤ (nI jy) then (((d5_goThrough P G L jx S).2) 8, P, (d5_goThrough P G L jx S).2) else (x5, P, (d5_goThrough P G L jx S).2)) else (x4, P, (d5_goThrough P G L jx S).2)) else (if (nI jy) = 0 then (if (nI jy) = 2 then (if (d5_load P (cN ((L jx k6).toInt32)) k6) ≤ x5 then g5_told_56 P G L S jy jx n (k6 + 1) x5 (x4 + (d5_slips P (cN ((L jx k6).toInt32)) k6)) else g5_told_56 P G L S jy jx n (k6 + 1) (d5_load P (cN ((L jx k6).toInt32)) k6) (x4 + (d5_slips P (cN ((L jx k6).toInt32)) k6))) else (if (d5_hands P (cN ((L jx k6).toInt32))) ≤ x5 then g5_told_56 P G L S jy jx n (k6 + 1) x5 (x4 + (d5_slips P (cN ((L jx k6).toInt32)) k6)) else g5_told_56 P G L S jy jx n (k6 + 1) (d5_hands P (cN ((L jx k6).toInt32))) (x4 + (d5_slips P (cN ((L jx k6).toInt32)) k6)))) else (if (nI jy) = 2 then (if (d5_load P (cN ((L jx k6).toInt32)) k6) ≤ x5 then g5_told_56 P G L S jy jx n (k6 + 1) x5 (x4 + (d5_tires P (cN ((L jx k6).toInt32)) k6)) else g5_told_56 P G L S jy jx n (k6 + 1) (d5_load P (cN ((L jx k6).toInt32)) k6) (x4 + (d5_tires P (cN ((L jx k6).toInt32)) k6))) else (if (d5_hands P (cN ((L jx k6).toInt32))) ≤ x5 then g5_told_56 P G L S jy jx n (k6 + 1) x5 (x4 + (d5_tires P (cN ((L jx k6).toInt32)) k6)) else g5_told_56 P G L S jy jx n (k6 + 1) (d5_hands P (cN ((L jx k6).toInt32))) (x4 + (d5_tires P (cN ((L jx k6).toInt32)) k6)))))
def d5_told (P : Nat → Nat → Int32) (G : Nat → Int32) (L : Nat → Nat → Int64) (x : Int32) (y : Int32) (S : Nat) : Int32 × (Nat → Nat → Int32) × (Nat → Int32) := if (d5_in y.toInt64 0 4) = 0 then (-(nI 2), up P 13 2 (P 13 2 + 1), G) else (if ((d5_noClimb P x).1) = 0 then (if ((d5_goThrough P G L (cN x) S).1) = (-1) then g5_told_56 P G L S (cN y) (cN x) (S + 1) 0 0 0 else (-(nI 5), up P 13 5 (P 13 5 + 1), (d5_goThrough P G L (cN x) S).2)) else ((d5_noClimb P x).1, (d5_noClimb P x).2, G))
set_option maxHeartbeats 4000000 in
set_option maxRecDepth 100000 in
theorem m5_told (l : Launch) (D : va_G) (dA : Nat → ClassId) (am : Nat → Nat) (P T : Nat → Nat → Int32) (G : Nat → Int32) (L : Nat → Nat → Int64) (kt tr : Option Nat) (sz : Nat) (S : Nat) (Wn : Nat) (x : Int32) (y : Int32) (hst : P 7 0 = nI S) (hS : S ≤ 9) (hwt : P 7 1 = nI Wn) (hW : Wn ≤ 6) : Met l yX5_told (ws_ yX5_told cX5_told 9 (some .int)) ({ frames := 3, cells := 0, slots := 0, locals := 69 } : Room) (fPm D dA (MO dA am P T G L kt tr) sz [.ref (am 0), .int x, .int y]) (fQm (S := Unit) D (MO dA am P T G L kt tr) sz (fun _ => some (.int ((d5_told P G L x y S).1))) (fun _ => True) (fun _ => MO dA am ((d5_told P G L x y S).2.1) T ((d5_told P G L x y S).2.2) L kt tr)) 0 0 (fA (MO dA am P T G L kt tr) sz) := by
  refine Met.ofW (cc := cX5_told) (maxL := 9) (ret := (some .int)) (by decide) rfl ?_
  intro p e s m args below meth c s₁ B hml hv
  obtain ⟨rfl, hsz, hP0, hG, hD0⟩ := hv
  have hK := hG.1
  have hx := B.exec
  have hb := B.bytes
  have hr := B.returns
  have hts := atoms_spec (ws := (ws_ yX5_told cX5_told 9 (some .int))) B.pre
  have hts : ∀ w ∈ lw_all, w.before _ s = true := fun w h => hts w (List.mem_cons_of_mem _ h)
  have hown : s.vm.findClass RX5 = some m.cls := findClass_of_methodNamed B.named
  have hlocks := B.notSynchronized
  subst hsz
  have hI := FI.start hP0 hD0
  have hl := lv_entry ([.ref (am 0), .int x, .int y]) (n := 9) (Nat.le_of_ble_eq_true rfl)
  rw [lg_entry_eq]
  generalize (lg_sl ([.ref (am 0), .int x, .int y]) ++ List.replicate (9 - (lg_sl ([.ref (am 0), .int x, .int y])).length) Slot.unset).toArray = ls at hl ⊢
  have hl : lv_has ls 9 [(0, .ref (am 0)), (1, .int x), (2, .int y)] := hl
  refine lv_iload_n hx hb dX5_told_0 rfl (lv_at hl 2 rfl) ?_
  refine lv_i2l (v := y.toInt64) hx hb dX5_told_1 rfl ?_
  refine lv_lconst (v := 0) hx hb dX5_told_2 (by decide) ?_
  refine lv_ldc2 (v := 4) hx hb hown (hts _ q1627) dX5_told_3 ?_
  refine f_pS hx hb hml hown hts (m5_in l D dA (MO dA am P T G L kt tr)  y.toInt64 0 4 ) (va_cwS 3 hts (lw_S q1624 q1625 q79 q1626) rfl rfl rfl (by decide +kernel) ⟨Nat.le_of_ble_eq_true rfl, Nat.le_of_ble_eq_true rfl⟩) hG hI.1 f_id rfl hl.1 rfl (Nat.le_of_ble_eq_true rfl) dX5_told_6 ⟨Nat.zero_le _, Nat.zero_le _⟩ ?_
  refine lv_if_ne (tgt := 19) hx hb dX5_told_9 (by decide) (fun c_9 => ?_) (fun c_9 => ?_)
  · obtain ⟨jy, h_jy, rfl⟩ := in_nat c_9 (n := 4) (by decide) (by decide)
    refine lv_aload_n hx hb dX5_told_19 rfl (lv_at hl 0 rfl) ?_
    refine lv_iload_n hx hb dX5_told_20 rfl (lv_at hl 1 rfl) ?_
    refine f_mV0 hx hb hml hown hts (m5_noClimb l D dA am P T G L kt tr _  x ) (cwV 1 hts (lw_V q1867 q1869 qs56 q79 q1870) rfl rfl rfl (by decide +kernel) ⟨Nat.le_of_ble_eq_true rfl, Nat.le_of_ble_eq_true rfl⟩) hG hI MO_0 rfl rfl hl.1 rfl (Nat.le_of_ble_eq_true rfl) dX5_told_21 ⟨Nat.zero_le _, Nat.zero_le _⟩ (fun _ H locs _ hI => ?_)
    refine lv_istore_n (lv' := [(3, .int ((d5_noClimb P x).1)), (0, .ref (am 0)), (1, .int x), (2, .int (nI jy))]) hx hb dX5_told_24 rfl hl (by decide) rfl (fun ls hl => ?_)
    refine lv_iload_n hx hb dX5_told_25 rfl (lv_at hl 0 rfl) ?_
    refine lv_if_eq (tgt := 31) hx hb dX5_told_26 (by decide) (fun (c_26 : ((d5_noClimb P x).1) = 0) => ?_) (fun (c_26 : ¬ (((d5_noClimb P x).1) = 0)) => ?_)
    · obtain ⟨hno, jx, h_jx, rfl, hno2⟩ := noClimb_ok c_26
      simp only [hno] at hI
      refine lv_aload_n hx hb dX5_told_31 rfl (lv_at hl 1 rfl) ?_
      refine lv_iload_n hx hb dX5_told_32 rfl (lv_at hl 2 rfl) ?_
      refine f_mV0 hx hb hml hown hts (m5_goThrough l D dA am P T G L kt tr _ S Wn jx (by omega) hst hS hwt hW) (cwV 1 hts (lw_V q1871 q1873 qs57 q79 q1874) rfl rfl rfl (by decide +kernel) ⟨Nat.le_of_ble_eq_true rfl, Nat.le_of_ble_eq_true rfl⟩) hG hI MO_0 rfl rfl hl.1 rfl (Nat.le_of_ble_eq_true rfl) dX5_told_33 ⟨Nat.zero_le _, Nat.zero_le _⟩ (fun _ H locs _ hI => ?_)
      refine lv_iconst (v := -1) hx hb dX5_told_36 (by decide) ?_
      refine lv_icmp_eq (tgt := 47) hx hb dX5_told_37 (by decide) (fun (c_37 : ((d5_goThrough P G L jx S).1) = (-1)) => ?_) (fun (c_37 : ¬ (((d5_goThrough P G L jx S).1) = (-1))) => ?_)
      · have hway := goThrough_ok hst hS hwt hW c_37
        refine lv_iconst (v := 0) hx hb dX5_told_47 (by decide) ?_
        refine lv_istore (lv' := [(4, .int 0), (3, .int ((d5_noClimb P (nI jx)).1)), (0, .ref (am 0)), (1, .int (nI jx)), (2, .int (nI jy))]) hx hb dX5_told_48 hl (by decide) rfl (fun ls hl => ?_)
        refine lv_iconst (v := 0) hx hb dX5_told_50 (by decide) ?_
        refine lv_istore (lv' := [(5, .int 0), (4, .int 0), (3, .int ((d5_noClimb P (nI jx)).1)), (0, .ref (am 0)), (1, .int (nI jx)), (2, .int (nI jy))]) hx hb dX5_told_51 hl (by decide) rfl (fun ls hl => ?_)
        refine lv_iconst (v := 0) hx hb dX5_told_53 (by decide) ?_
        refine lv_istore (lv' := [(6, .int 0), (5, .int 0), (4, .int 0), (3, .int ((d5_noClimb P (nI jx)).1)), (0, .ref (am 0)), (1, .int (nI jx)), (2, .int (nI jy))]) hx hb dX5_told_54 hl (by decide) rfl (fun ls hl => ?_)
        have lp_56 : ∀ (n56 : Nat) (k6 : Nat) (x5 : Int32) (x4 : Int32), (k6 ≤ S) → S - k6 < n56 → g5_told_56 P G L S jy jx n56 k6 x5 x4 = d5_told P G L (nI jx) (nI jy) S → ∀ (H : Heap) (locs : List Loc), FI D gcl (fA (MO dA am P T G L kt tr) s.heap.size) s.heap (MO dA am P T ((d5_goThrough P G L jx S).2) L kt tr) H locs → ∀ (ls : Array Slot), lv_has ls 9 [(6, .int (nI k6)), (5, .int x5), (4, .int x4), (3, .int ((d5_noClimb P (nI jx)).1)), (0, .ref (am 0)), (1, .int (nI jx)), (2, .int (nI jy))] → W p l e (headSpec (ws_ yX5_told cX5_told 9 (some .int)) ({ frames := 3, cells := 0, slots := 0, locals := 69 } : Room)).room s m ([.ref (am 0), .int (nI jx), .int (nI jy)] : List Value).toArray below meth c H locs 0 0 (MQ below (fQm (S := Unit) D (MO dA am P T G L kt tr) s.heap.size (fun _ => some (.int ((d5_told P G L (nI jx) (nI jy) S).1))) (fun _ => True) (fun _ => MO dA am ((d5_told P G L (nI jx) (nI jy) S).2.1) T ((d5_told P G L (nI jx) (nI jy) S).2.2) L kt tr)) ([.ref (am 0), .int (nI jx), .int (nI jy)] : List Value).toArray s 0 0 (fA (MO dA am P T G L kt tr) s.heap.size)) (F0 m 56 ls []) := by
          intro n56
          induction n56 with
          | zero => intro k6 x5 x4 hk hM56; exact absurd hM56 (Nat.not_lt_zero _)
          | succ n56 ih56 =>
            intro k6 x5 x4 hk hM56 hV H locs hI ls hl
            unfold g5_told_56 at hV
            refine lv_iload hx hb dX5_told_56 (lv_at hl 0 rfl) ?_
            refine lv_aload_n hx hb dX5_told_58 rfl (lv_at hl 4 rfl) ?_
            refine f_get hx hb hts in_X5 hown hK hI.1 0 MO_0 rfl 9 (by decide) (hts _ q1519) (fun x h => h) rfl dX5_told_59 ?_
            refine lv_icmp_ge (tgt := 151) hx hb dX5_told_62 (by decide) (fun (c_62 : (P 7 0) ≤ (nI k6)) => ?_) (fun (c_62 : ¬ ((P 7 0) ≤ (nI k6))) => ?_)
            · have e_62 := (nat_le (a := S) (b := k6) hst rfl (by omega) (by omega)).mp c_62
              refine lv_iload_n hx hb dX5_told_151 rfl (lv_at hl 6 rfl) ?_
              refine lv_iconst (v := 2) hx hb dX5_told_152 (by decide) ?_
              refine lv_icmp_ge (tgt := 161) hx hb dX5_told_153 (by decide) (fun (c_153 : 2 ≤ (nI jy)) => ?_) (fun (c_153 : ¬ (2 ≤ (nI jy))) => ?_)
              · have e_153 := (nat_le (a := 2) (b := jy) rfl rfl (by omega) (by omega)).mp c_153
                refine lv_iload_n hx hb dX5_told_161 rfl (lv_at hl 6 rfl) ?_
                refine lv_iconst (v := 4) hx hb dX5_told_162 (by decide) ?_
                refine lv_icmp_ge (tgt := 171) hx hb dX5_told_163 (by decide) (fun (c_163 : 4 ≤ (nI jy)) => ?_) (fun (c_163 : ¬ (4 ≤ (nI jy))) => ?_)
                · have e_163 := (nat_le (a := 4) (b := jy) rfl rfl (by omega) (by omega)).mp c_163
                  refine lv_aload_n hx hb dX5_told_171 rfl (lv_at hl 4 rfl) ?_
                  refine f_get hx hb hts in_X5 hown hK hI.1 0 MO_0 rfl 31 (by decide) (hts _ q1541) (fun x h => h) rfl dX5_told_172 ?_
                  have hE : (((d5_goThrough P G L jx S).2) 8, P, (d5_goThrough P G L jx S).2) = d5_told P G L (nI jx) (nI jy) S := (by have z := hV; rw [if_pos c_62, if_pos c_153, if_pos c_163] at z; exact z)
                  exact f_mreti hx hb hr hlocks hI dX5_told_175 () (congrArg (fun z => some (Value.int z.1)) hE) trivial (congrArg (fun z => MO dA am z.2.1 T z.2.2 L kt tr) hE)
                · have e_163 := (not_congr (nat_le (a := 4) (b := jy) rfl rfl (by omega) (by omega))).mp c_163
                  refine lv_iload hx hb dX5_told_166 (lv_at hl 1 rfl) ?_
                  refine lv_goto (tgt := 175) hx hb dX5_told_168 (by decide) ?_
                  have hE : (x5, P, (d5_goThrough P G L jx S).2) = d5_told P G L (nI jx) (nI jy) S := (by have z := hV; rw [if_pos c_62, if_pos c_153, if_neg c_163] at z; exact z)
                  exact f_mreti hx hb hr hlocks hI dX5_told_175 () (congrArg (fun z => some (Value.int z.1)) hE) trivial (congrArg (fun z => MO dA am z.2.1 T z.2.2 L kt tr) hE)
              · have e_153 := (not_congr (nat_le (a := 2) (b := jy) rfl rfl (by omega) (by omega))).mp c_153
                refine lv_iload hx hb dX5_told_156 (lv_at hl 2 rfl) ?_
                refine lv_goto (tgt := 175) hx hb dX5_told_158 (by decide) ?_
                have hE : (x4, P, (d5_goThrough P G L jx S).2) = d5_told P G L (nI jx) (nI jy) S := (by have z := hV; rw [if_pos c_62, if_neg c_153] at z; exact z)
                exact f_mreti hx hb hr hlocks hI dX5_told_175 () (congrArg (fun z => some (Value.int z.1)) hE) trivial (congrArg (fun z => MO dA am z.2.1 T z.2.2 L kt tr) hE)
            · have e_62 := (not_congr (nat_le (a := S) (b := k6) hst rfl (by omega) (by omega))).mp c_62
              refine lv_aload_n hx hb dX5_told_65 rfl (lv_at hl 4 rfl) ?_
              refine f_get hx hb hts in_X5 hown hK hI.1 0 MO_0 rfl 3 (by decide) (hts _ q1513) (fun x h => h) rfl dX5_told_66 ?_
              refine lv_iload_n hx hb dX5_told_69 rfl (lv_at hl 5 rfl) ?_
              refine f_aldA hx hb hK hI.1 4 10 MO_4 rfl jx rfl (by omega) (by decide) rfl dX5_told_70 ?_
              refine lv_iload hx hb dX5_told_71 (lv_at hl 0 rfl) ?_
              obtain ⟨jw, hjw, hjL, -⟩ := hway k6 (by omega)
              have hjw2 : (L jx k6).toInt32 = nI jw := l2i_nat hjL (by omega)
              refine f_lald hx hb hK hI.1 (20 + jx) 3 (MO_row (by omega)) rfl k6 rfl (by omega) (by decide) dX5_told_73 ?_
              refine lv_l2i (v := (L jx k6).toInt32) hx hb dX5_told_74 rfl ?_
              refine lv_istore (lv' := [(7, .int ((L jx k6).toInt32)), (6, .int (nI k6)), (5, .int x5), (4, .int x4), (3, .int ((d5_noClimb P (nI jx)).1)), (0, .ref (am 0)), (1, .int (nI jx)), (2, .int (nI jy))]) hx hb dX5_told_75 hl (by decide) rfl (fun ls hl => ?_)
              refine lv_iload hx hb dX5_told_77 (lv_at hl 3 rfl) ?_
              refine lv_iload_n hx hb dX5_told_79 rfl (lv_at hl 7 rfl) ?_
              refine lv_if_ne (tgt := 94) hx hb dX5_told_80 (by decide) (fun (c_80 : ¬ ((nI jy) = 0)) => ?_) (fun (c_80 : (nI jy) = 0) => ?_)
              · have e_80 := (not_congr (nat_eq (a := jy) (b := 0) rfl rfl (by omega) (by omega))).mp c_80
                refine lv_aload_n hx hb dX5_told_94 rfl (lv_at hl 5 rfl) ?_
                refine lv_iload hx hb dX5_told_95 (lv_at hl 0 rfl) ?_
                refine lv_iload hx hb dX5_told_97 (lv_at hl 1 rfl) ?_
                refine f_pV hx hb hml hown hts (m5_tires l D dA am P T ((d5_goThrough P G L jx S).2) L kt tr  jw k6 (by omega) (by omega)) (cwV 2 hts (lw_V q1680 q1682 qs37 q79 q1683) rfl rfl rfl (by decide +kernel) ⟨Nat.le_of_ble_eq_true rfl, Nat.le_of_ble_eq_true rfl⟩) hG hI.1 f_id MO_0 rfl rfl hl.1 (by rw [← hjw2]; rfl) (Nat.le_of_ble_eq_true rfl) dX5_told_99 ⟨Nat.zero_le _, Nat.zero_le _⟩ ?_
                refine lv_iadd hx hb dX5_told_102 ?_
                refine lv_istore (lv' := [(4, .int (x4 + (d5_tires P jw k6))), (7, .int ((L jx k6).toInt32)), (6, .int (nI k6)), (5, .int x5), (3, .int ((d5_noClimb P (nI jx)).1)), (0, .ref (am 0)), (1, .int (nI jx)), (2, .int (nI jy))]) hx hb dX5_told_103 hl (by decide) rfl (fun ls hl => ?_)
                refine lv_iload_n hx hb dX5_told_105 rfl (lv_at hl 7 rfl) ?_
                refine lv_iconst (v := 2) hx hb dX5_told_106 (by decide) ?_
                refine lv_icmp_ne (tgt := 121) hx hb dX5_told_107 (by decide) (fun (c_107 : ¬ ((nI jy) = 2)) => ?_) (fun (c_107 : (nI jy) = 2) => ?_)
                · have e_107 := (not_congr (nat_eq (a := jy) (b := 2) rfl rfl (by omega) (by omega))).mp c_107
                  refine lv_aload_n hx hb dX5_told_121 rfl (lv_at hl 5 rfl) ?_
                  refine lv_iload hx hb dX5_told_122 (lv_at hl 1 rfl) ?_
                  refine f_pV hx hb hml hown hts (m5_hands l D dA am P T ((d5_goThrough P G L jx S).2) L kt tr  jw (by omega)) (cwV 1 hts (lw_V q1842 q1844 qs54 q79 q1845) rfl rfl rfl (by decide +kernel) ⟨Nat.le_of_ble_eq_true rfl, Nat.le_of_ble_eq_true rfl⟩) hG hI.1 f_id MO_0 rfl rfl hl.1 (by rw [← hjw2]; rfl) (Nat.le_of_ble_eq_true rfl) dX5_told_124 ⟨Nat.zero_le _, Nat.zero_le _⟩ ?_
                  refine lv_istore (lv' := [(8, .int (d5_hands P jw)), (4, .int (x4 + (d5_tires P jw k6))), (7, .int ((L jx k6).toInt32)), (6, .int (nI k6)), (5, .int x5), (3, .int ((d5_noClimb P (nI jx)).1)), (0, .ref (am 0)), (1, .int (nI jx)), (2, .int (nI jy))]) hx hb dX5_told_127 hl (by decide) rfl (fun ls hl => ?_)
                  refine lv_iload hx hb dX5_told_129 (lv_at hl 0 rfl) ?_
                  refine lv_iload hx hb dX5_told_131 (lv_at hl 4 rfl) ?_
                  refine lv_icmp_le (tgt := 141) hx hb dX5_told_133 (by decide) (fun (c_133 : (d5_hands P jw) ≤ x5) => ?_) (fun (c_133 : ¬ ((d5_hands P jw) ≤ x5)) => ?_)
                  · refine lv_iload hx hb dX5_told_141 (lv_at hl 4 rfl) ?_
                    refine lv_istore (lv' := [(5, .int x5), (8, .int (d5_hands P jw)), (4, .int (x4 + (d5_tires P jw k6))), (7, .int ((L jx k6).toInt32)), (6, .int (nI k6)), (3, .int ((d5_noClimb P (nI jx)).1)), (0, .ref (am 0)), (1, .int (nI jx)), (2, .int (nI jy))]) hx hb dX5_told_143 hl (by decide) rfl (fun ls hl => ?_)
                    refine lv_iinc (v := nI (k6 + 1)) (lv' := [(6, .int (nI (k6 + 1))), (5, .int x5), (8, .int (d5_hands P jw)), (4, .int (x4 + (d5_tires P jw k6))), (7, .int ((L jx k6).toInt32)), (3, .int ((d5_noClimb P (nI jx)).1)), (0, .ref (am 0)), (1, .int (nI jx)), (2, .int (nI jy))]) hx hb dX5_told_145 hl (k := 4) rfl (nI_1 k6) (by decide) rfl (fun ls hl => ?_)
                    refine lv_goto (tgt := 56) hx hb dX5_told_148 (by decide) ?_
                    exact ih56 (k6 + 1) x5 (x4 + (d5_tires P jw k6)) (by omega) (by omega) (by have z := hV; (try simp only [cN_of hjw2 (show jw < 65536 by omega)] at z); rw [if_neg c_62, if_neg c_80, if_neg c_107, if_pos c_133] at z; exact z) _ _ hI ls (lv_sub hl [0, 1, 3, 5, 6, 7, 8] rfl)
                  · refine lv_iload hx hb dX5_told_136 (lv_at hl 0 rfl) ?_
                    refine lv_goto (tgt := 143) hx hb dX5_told_138 (by decide) ?_
                    refine lv_istore (lv' := [(5, .int (d5_hands P jw)), (8, .int (d5_hands P jw)), (4, .int (x4 + (d5_tires P jw k6))), (7, .int ((L jx k6).toInt32)), (6, .int (nI k6)), (3, .int ((d5_noClimb P (nI jx)).1)), (0, .ref (am 0)), (1, .int (nI jx)), (2, .int (nI jy))]) hx hb dX5_told_143 hl (by decide) rfl (fun ls hl => ?_)
                    refine lv_iinc (v := nI (k6 + 1)) (lv' := [(6, .int (nI (k6 + 1))), (5, .int (d5_hands P jw)), (8, .int (d5_hands P jw)), (4, .int (x4 + (d5_tires P jw k6))), (7, .int ((L jx k6).toInt32)), (3, .int ((d5_noClimb P (nI jx)).1)), (0, .ref (am 0)), (1, .int (nI jx)), (2, .int (nI jy))]) hx hb dX5_told_145 hl (k := 4) rfl (nI_1 k6) (by decide) rfl (fun ls hl => ?_)
                    refine lv_goto (tgt := 56) hx hb dX5_told_148 (by decide) ?_
                    exact ih56 (k6 + 1) (d5_hands P jw) (x4 + (d5_tires P jw k6)) (by omega) (by omega) (by have z := hV; (try simp only [cN_of hjw2 (show jw < 65536 by omega)] at z); rw [if_neg c_62, if_neg c_80, if_neg c_107, if_neg c_133] at z; exact z) _ _ hI ls (lv_sub hl [0, 1, 3, 5, 6, 7, 8] rfl)
                · have e_107 := (nat_eq (a := jy) (b := 2) rfl rfl (by omega) (by omega)).mp c_107
                  refine lv_aload_n hx hb dX5_told_110 rfl (lv_at hl 5 rfl) ?_
                  refine lv_iload hx hb dX5_told_111 (lv_at hl 1 rfl) ?_
                  refine lv_iload hx hb dX5_told_113 (lv_at hl 2 rfl) ?_
                  refine f_pV hx hb hml hown hts (m5_load l D dA am P T ((d5_goThrough P G L jx S).2) L kt tr  jw k6 (by omega) (by omega)) (cwV 2 hts (lw_V q1684 q1686 qs38 q79 q1687) rfl rfl rfl (by decide +kernel) ⟨Nat.le_of_ble_eq_true rfl, Nat.le_of_ble_eq_true rfl⟩) hG hI.1 f_id MO_0 rfl rfl hl.1 (by rw [← hjw2]; rfl) (Nat.le_of_ble_eq_true rfl) dX5_told_115 ⟨Nat.zero_le _, Nat.zero_le _⟩ ?_
                  refine lv_goto (tgt := 127) hx hb dX5_told_118 (by decide) ?_
                  refine lv_istore (lv' := [(8, .int (d5_load P jw k6)), (4, .int (x4 + (d5_tires P jw k6))), (7, .int ((L jx k6).toInt32)), (6, .int (nI k6)), (5, .int x5), (3, .int ((d5_noClimb P (nI jx)).1)), (0, .ref (am 0)), (1, .int (nI jx)), (2, .int (nI jy))]) hx hb dX5_told_127 hl (by decide) rfl (fun ls hl => ?_)
                  refine lv_iload hx hb dX5_told_129 (lv_at hl 0 rfl) ?_
                  refine lv_iload hx hb dX5_told_131 (lv_at hl 4 rfl) ?_
                  refine lv_icmp_le (tgt := 141) hx hb dX5_told_133 (by decide) (fun (c_133 : (d5_load P jw k6) ≤ x5) => ?_) (fun (c_133 : ¬ ((d5_load P jw k6) ≤ x5)) => ?_)
                  · refine lv_iload hx hb dX5_told_141 (lv_at hl 4 rfl) ?_
                    refine lv_istore (lv' := [(5, .int x5), (8, .int (d5_load P jw k6)), (4, .int (x4 + (d5_tires P jw k6))), (7, .int ((L jx k6).toInt32)), (6, .int (nI k6)), (3, .int ((d5_noClimb P (nI jx)).1)), (0, .ref (am 0)), (1, .int (nI jx)), (2, .int (nI jy))]) hx hb dX5_told_143 hl (by decide) rfl (fun ls hl => ?_)
                    refine lv_iinc (v := nI (k6 + 1)) (lv' := [(6, .int (nI (k6 + 1))), (5, .int x5), (8, .int (d5_load P jw k6)), (4, .int (x4 + (d5_tires P jw k6))), (7, .int ((L jx k6).toInt32)), (3, .int ((d5_noClimb P (nI jx)).1)), (0, .ref (am 0)), (1, .int (nI jx)), (2, .int (nI jy))]) hx hb dX5_told_145 hl (k := 4) rfl (nI_1 k6) (by decide) rfl (fun ls hl => ?_)
                    refine lv_goto (tgt := 56) hx hb dX5_told_148 (by decide) ?_
                    exact ih56 (k6 + 1) x5 (x4 + (d5_tires P jw k6)) (by omega) (by omega) (by have z := hV; (try simp only [cN_of hjw2 (show jw < 65536 by omega)] at z); rw [if_neg c_62, if_neg c_80, if_pos c_107, if_pos c_133] at z; exact z) _ _ hI ls (lv_sub hl [0, 1, 3, 5, 6, 7, 8] rfl)
                  · refine lv_iload hx hb dX5_told_136 (lv_at hl 0 rfl) ?_
                    refine lv_goto (tgt := 143) hx hb dX5_told_138 (by decide) ?_
                    refine lv_istore (lv' := [(5, .int (d5_load P jw k6)), (8, .int (d5_load P jw k6)), (4, .int (x4 + (d5_tires P jw k6))), (7, .int ((L jx k6).toInt32)), (6, .int (nI k6)), (3, .int ((d5_noClimb P (nI jx)).1)), (0, .ref (am 0)), (1, .int (nI jx)), (2, .int (nI jy))]) hx hb dX5_told_143 hl (by decide) rfl (fun ls hl => ?_)
                    refine lv_iinc (v := nI (k6 + 1)) (lv' := [(6, .int (nI (k6 + 1))), (5, .int (d5_load P jw k6)), (8, .int (d5_load P jw k6)), (4, .int (x4 + (d5_tires P jw k6))), (7, .int ((L jx k6).toInt32)), (3, .int ((d5_noClimb P (nI jx)).1)), (0, .ref (am 0)), (1, .int (nI jx)), (2, .int (nI jy))]) hx hb dX5_told_145 hl (k := 4) rfl (nI_1 k6) (by decide) rfl (fun ls hl => ?_)
                    refine lv_goto (tgt := 56) hx hb dX5_told_148 (by decide) ?_
                    exact ih56 (k6 + 1) (d5_load P jw k6) (x4 + (d5_tires P jw k6)) (by omega) (by omega) (by have z := hV; (try simp only [cN_of hjw2 (show jw < 65536 by omega)] at z); rw [if_neg c_62, if_neg c_80, if_pos c_107, if_neg c_133] at z; exact z) _ _ hI ls (lv_sub hl [0, 1, 3, 5, 6, 7, 8] rfl)
              · have e_80 := (nat_eq (a := jy) (b := 0) rfl rfl (by omega) (by omega)).mp c_80
                refine lv_aload_n hx hb dX5_told_83 rfl (lv_at hl 5 rfl) ?_
                refine lv_iload hx hb dX5_told_84 (lv_at hl 0 rfl) ?_
                refine lv_iload hx hb dX5_told_86 (lv_at hl 1 rfl) ?_
                refine f_pV hx hb hml hown hts (m5_slips l D dA am P T ((d5_goThrough P G L jx S).2) L kt tr  jw k6 (by omega) (by omega)) (cwV 2 hts (lw_V q1672 q1674 qs35 q79 q1675) rfl rfl rfl (by decide +kernel) ⟨Nat.le_of_ble_eq_true rfl, Nat.le_of_ble_eq_true rfl⟩) hG hI.1 f_id MO_0 rfl rfl hl.1 (by rw [← hjw2]; rfl) (Nat.le_of_ble_eq_true rfl) dX5_told_88 ⟨Nat.zero_le _, Nat.zero_le _⟩ ?_
                refine lv_goto (tgt := 102) hx hb dX5_told_91 (by decide) ?_
                refine lv_iadd hx hb dX5_told_102 ?_
                refine lv_istore (lv' := [(4, .int (x4 + (d5_slips P jw k6))), (7, .int ((L jx k6).toInt32)), (6, .int (nI k6)), (5, .int x5), (3, .int ((d5_noClimb P (nI jx)).1)), (0, .ref (am 0)), (1, .int (nI jx)), (2, .int (nI jy))]) hx hb dX5_told_103 hl (by decide) rfl (fun ls hl => ?_)
                refine lv_iload_n hx hb dX5_told_105 rfl (lv_at hl 7 rfl) ?_
                refine lv_iconst (v := 2) hx hb dX5_told_106 (by decide) ?_
                refine lv_icmp_ne (tgt := 121) hx hb dX5_told_107 (by decide) (fun (c_107 : ¬ ((nI jy) = 2)) => ?_) (fun (c_107 : (nI jy) = 2) => ?_)
                · have e_107 := (not_congr (nat_eq (a := jy) (b := 2) rfl rfl (by omega) (by omega))).mp c_107
                  refine lv_aload_n hx hb dX5_told_121 rfl (lv_at hl 5 rfl) ?_
                  refine lv_iload hx hb dX5_told_122 (lv_at hl 1 rfl) ?_
                  refine f_pV hx hb hml hown hts (m5_hands l D dA am P T ((d5_goThrough P G L jx S).2) L kt tr  jw (by omega)) (cwV 1 hts (lw_V q1842 q1844 qs54 q79 q1845) rfl rfl rfl (by decide +kernel) ⟨Nat.le_of_ble_eq_true rfl, Nat.le_of_ble_eq_true rfl⟩) hG hI.1 f_id MO_0 rfl rfl hl.1 (by rw [← hjw2]; rfl) (Nat.le_of_ble_eq_true rfl) dX5_told_124 ⟨Nat.zero_le _, Nat.zero_le _⟩ ?_
                  refine lv_istore (lv' := [(8, .int (d5_hands P jw)), (4, .int (x4 + (d5_slips P jw k6))), (7, .int ((L jx k6).toInt32)), (6, .int (nI k6)), (5, .int x5), (3, .int ((d5_noClimb P (nI jx)).1)), (0, .ref (am 0)), (1, .int (nI jx)), (2, .int (nI jy))]) hx hb dX5_told_127 hl (by decide) rfl (fun ls hl => ?_)
                  refine lv_iload hx hb dX5_told_129 (lv_at hl 0 rfl) ?_
                  refine lv_iload hx hb dX5_told_131 (lv_at hl 4 rfl) ?_
                  refine lv_icmp_le (tgt := 141) hx hb dX5_told_133 (by decide) (fun (c_133 : (d5_hands P jw) ≤ x5) => ?_) (fun (c_133 : ¬ ((d5_hands P jw) ≤ x5)) => ?_)
                  · refine lv_iload hx hb dX5_told_141 (lv_at hl 4 rfl) ?_
                    refine lv_istore (lv' := [(5, .int x5), (8, .int (d5_hands P jw)), (4, .int (x4 + (d5_slips P jw k6))), (7, .int ((L jx k6).toInt32)), (6, .int (nI k6)), (3, .int ((d5_noClimb P (nI jx)).1)), (0, .ref (am 0)), (1, .int (nI jx)), (2, .int (nI jy))]) hx hb dX5_told_143 hl (by decide) rfl (fun ls hl => ?_)
                    refine lv_iinc (v := nI (k6 + 1)) (lv' := [(6, .int (nI (k6 + 1))), (5, .int x5), (8, .int (d5_hands P jw)), (4, .int (x4 + (d5_slips P jw k6))), (7, .int ((L jx k6).toInt32)), (3, .int ((d5_noClimb P (nI jx)).1)), (0, .ref (am 0)), (1, .int (nI jx)), (2, .int (nI jy))]) hx hb dX5_told_145 hl (k := 4) rfl (nI_1 k6) (by decide) rfl (fun ls hl => ?_)
                    refine lv_goto (tgt := 56) hx hb dX5_told_148 (by decide) ?_
                    exact ih56 (k6 + 1) x5 (x4 + (d5_slips P jw k6)) (by omega) (by omega) (by have z := hV; (try simp only [cN_of hjw2 (show jw < 65536 by omega)] at z); rw [if_neg c_62, if_pos c_80, if_neg c_107, if_pos c_133] at z; exact z) _ _ hI ls (lv_sub hl [0, 1, 3, 5, 6, 7, 8] rfl)
                  · refine lv_iload hx hb dX5_told_136 (lv_at hl 0 rfl) ?_
                    refine lv_goto (tgt := 143) hx hb dX5_told_138 (by decide) ?_
                    refine lv_istore (lv' := [(5, .int (d5_hands P jw)), (8, .int (d5_hands P jw)), (4, .int (x4 + (d5_slips P jw k6))), (7, .int ((L jx k6).toInt32)), (6, .int (nI k6)), (3, .int ((d5_noClimb P (nI jx)).1)), (0, .ref (am 0)), (1, .int (nI jx)), (2, .int (nI jy))]) hx hb dX5_told_143 hl (by decide) rfl (fun ls hl => ?_)
                    refine lv_iinc (v := nI (k6 + 1)) (lv' := [(6, .int (nI (k6 + 1))), (5, .int (d5_hands P jw)), (8, .int (d5_hands P jw)), (4, .int (x4 + (d5_slips P jw k6))), (7, .int ((L jx k6).toInt32)), (3, .int ((d5_noClimb P (nI jx)).1)), (0, .ref (am 0)), (1, .int (nI jx)), (2, .int (nI jy))]) hx hb dX5_told_145 hl (k := 4) rfl (nI_1 k6) (by decide) rfl (fun ls hl => ?_)
                    refine lv_goto (tgt := 56) hx hb dX5_told_148 (by decide) ?_
                    exact ih56 (k6 + 1) (d5_hands P jw) (x4 + (d5_slips P jw k6)) (by omega) (by omega) (by have z := hV; (try simp only [cN_of hjw2 (show jw < 65536 by omega)] at z); rw [if_neg c_62, if_pos c_80, if_neg c_107, if_neg c_133] at z; exact z) _ _ hI ls (lv_sub hl [0, 1, 3, 5, 6, 7, 8] rfl)
                · have e_107 := (nat_eq (a := jy) (b := 2) rfl rfl (by omega) (by omega)).mp c_107
                  refine lv_aload_n hx hb dX5_told_110 rfl (lv_at hl 5 rfl) ?_
                  refine lv_iload hx hb dX5_told_111 (lv_at hl 1 rfl) ?_
                  refine lv_iload hx hb dX5_told_113 (lv_at hl 2 rfl) ?_
                  refine f_pV hx hb hml hown hts (m5_load l D dA am P T ((d5_goThrough P G L jx S).2) L kt tr  jw k6 (by omega) (by omega)) (cwV 2 hts (lw_V q1684 q1686 qs38 q79 q1687) rfl rfl rfl (by decide +kernel) ⟨Nat.le_of_ble_eq_true rfl, Nat.le_of_ble_eq_true rfl⟩) hG hI.1 f_id MO_0 rfl rfl hl.1 (by rw [← hjw2]; rfl) (Nat.le_of_ble_eq_true rfl) dX5_told_115 ⟨Nat.zero_le _, Nat.zero_le _⟩ ?_
                  refine lv_goto (tgt := 127) hx hb dX5_told_118 (by decide) ?_
                  refine lv_istore (lv' := [(8, .int (d5_load P jw k6)), (4, .int (x4 + (d5_slips P jw k6))), (7, .int ((L jx k6).toInt32)), (6, .int (nI k6)), (5, .int x5), (3, .int ((d5_noClimb P (nI jx)).1)), (0, .ref (am 0)), (1, .int (nI jx)), (2, .int (nI jy))]) hx hb dX5_told_127 hl (by decide) rfl (fun ls hl => ?_)
                  refine lv_iload hx hb dX5_told_129 (lv_at hl 0 rfl) ?_
                  refine lv_iload hx hb dX5_told_131 (lv_at hl 4 rfl) ?_
                  refine lv_icmp_le (tgt := 141) hx hb dX5_told_133 (by decide) (fun (c_133 : (d5_load P jw k6) ≤ x5) => ?_) (fun (c_133 : ¬ ((d5_load P jw k6) ≤ x5)) => ?_)
                  · refine lv_iload hx hb dX5_told_141 (lv_at hl 4 rfl) ?_
                    refine lv_istore (lv' := [(5, .int x5), (8, .int (d5_load P jw k6)), (4, .int (x4 + (d5_slips P jw k6))), (7, .int ((L jx k6).toInt32)), (6, .int (nI k6)), (3, .int ((d5_noClimb P (nI jx)).1)), (0, .ref (am 0)), (1, .int (nI jx)), (2, .int (nI jy))]) hx hb dX5_told_143 hl (by decide) rfl (fun ls hl => ?_)
                    refine lv_iinc (v := nI (k6 + 1)) (lv' := [(6, .int (nI (k6 + 1))), (5, .int x5), (8, .int (d5_load P jw k6)), (4, .int (x4 + (d5_slips P jw k6))), (7, .int ((L jx k6).toInt32)), (3, .int ((d5_noClimb P (nI jx)).1)), (0, .ref (am 0)), (1, .int (nI jx)), (2, .int (nI jy))]) hx hb dX5_told_145 hl (k := 4) rfl (nI_1 k6) (by decide) rfl (fun ls hl => ?_)
                    refine lv_goto (tgt := 56) hx hb dX5_told_148 (by decide) ?_
                    exact ih56 (k6 + 1) x5 (x4 + (d5_slips P jw k6)) (by omega) (by omega) (by have z := hV; (try simp only [cN_of hjw2 (show jw < 65536 by omega)] at z); rw [if_neg c_62, if_pos c_80, if_pos c_107, if_pos c_133] at z; exact z) _ _ hI ls (lv_sub hl [0, 1, 3, 5, 6, 7, 8] rfl)
                  · refine lv_iload hx hb dX5_told_136 (lv_at hl 0 rfl) ?_
                    refine lv_goto (tgt := 143) hx hb dX5_told_138 (by decide) ?_
                    refine lv_istore (lv' := [(5, .int (d5_load P jw k6)), (8, .int (d5_load P jw k6)), (4, .int (x4 + (d5_slips P jw k6))), (7, .int ((L jx k6).toInt32)), (6, .int (nI k6)), (3, .int ((d5_noClimb P (nI jx)).1)), (0, .ref (am 0)), (1, .int (nI jx)), (2, .int (nI jy))]) hx hb dX5_told_143 hl (by decide) rfl (fun ls hl => ?_)
                    refine lv_iinc (v := nI (k6 + 1)) (lv' := [(6, .int (nI (k6 + 1))), (5, .int (d5_load P jw k6)), (8, .int (d5_load P jw k6)), (4, .int (x4 + (d5_slips P jw k6))), (7, .int ((L jx k6).toInt32)), (3, .int ((d5_noClimb P (nI jx)).1)), (0, .ref (am 0)), (1, .int (nI jx)), (2, .int (nI jy))]) hx hb dX5_told_145 hl (k := 4) rfl (nI_1 k6) (by decide) rfl (fun ls hl => ?_)
                    refine lv_goto (tgt := 56) hx hb dX5_told_148 (by decide) ?_
                    exact ih56 (k6 + 1) (d5_load P jw k6) (x4 + (d5_slips P jw k6)) (by omega) (by omega) (by have z := hV; (try simp only [cN_of hjw2 (show jw < 65536 by omega)] at z); rw [if_neg c_62, if_pos c_80, if_pos c_107, if_neg c_133] at z; exact z) _ _ hI ls (lv_sub hl [0, 1, 3, 5, 6, 7, 8] rfl)
        exact lp_56 (S + 1) 0 0 0 (by omega) (by omega) (by unfold d5_told; (try simp only [cN_nI (show jy < 65536 by omega), cN_nI (show jx < 65536 by omega)]); rw [if_neg c_9, if_pos c_26, if_pos c_37]) _ _ hI ls (lv_sub hl [0, 1, 2, 3, 4, 5, 6] rfl)
      · refine lv_aload_n hx hb dX5_told_40 rfl (lv_at hl 1 rfl) ?_
        refine lv_bipush (v := -5) hx hb dX5_told_41 (by decide) ?_
        refine f_mV0 hx hb hml hown hts (m5_refuse l D dA am P T ((d5_goThrough P G L jx S).2) L kt tr _  5 (by omega)) (cwV 1 hts (lw_V q1629 q1631 qs32 q79 q1632) rfl rfl rfl (by decide +kernel) ⟨Nat.le_of_ble_eq_true rfl, Nat.le_of_ble_eq_true rfl⟩) hG hI MO_0 rfl rfl hl.1 rfl (Nat.le_of_ble_eq_true rfl) dX5_told_43 ⟨Nat.zero_le _, Nat.zero_le _⟩ (fun _ H locs _ hI => ?_)
        have hE : (-(nI 5), up P 13 5 (P 13 5 + 1), (d5_goThrough P G L jx S).2) = d5_told P G L (nI jx) (nI jy) S := (by unfold d5_told; (try simp only [cN_nI (show jy < 65536 by omega), cN_nI (show jx < 65536 by omega)]); rw [if_neg c_9, if_pos c_26, if_neg c_37])
        exact f_mreti hx hb hr hlocks hI dX5_told_46 () (congrArg (fun z => some (Value.int z.1)) hE) trivial (congrArg (fun z => MO dA am z.2.1 T z.2.2 L kt tr) hE)
    · refine lv_iload_n hx hb dX5_told_29 rfl (lv_at hl 0 rfl) ?_
      have hE : ((d5_noClimb P x).1, (d5_noClimb P x).2, G) = d5_told P G L x (nI jy) S := (by unfold d5_told; (try simp only [cN_nI (show jy < 65536 by omega)]); rw [if_neg c_9, if_neg c_26])
      exact f_mreti hx hb hr hlocks hI dX5_told_30 () (congrArg (fun z => some (Value.int z.1)) hE) trivial (congrArg (fun z => MO dA am z.2.1 T z.2.2 L kt tr) hE)
  · refine lv_aload_n hx hb dX5_told_12 rfl (lv_at hl 0 rfl) ?_
    refine lv_bipush (v := -2) hx hb dX5_told_13 (by decide) ?_
    refine f_mV0 hx hb hml hown hts (m5_refuse l D dA am P T G L kt tr _  2 (by omega)) (cwV 1 hts (lw_V q1629 q1631 qs32 q79 q1632) rfl rfl rfl (by decide +kernel) ⟨Nat.le_of_ble_eq_true rfl, Nat.le_of_ble_eq_true rfl⟩) hG hI MO_0 rfl rfl hl.1 rfl (Nat.le_of_ble_eq_true rfl) dX5_told_15 ⟨Nat.zero_le _, Nat.zero_le _⟩ (fun _ H locs _ hI => ?_)
    have hE : (-(nI 2), up P 13 2 (P 13 2 + 1), G) = d5_told P G L x y S := (by unfold d5_told; rw [if_pos c_9])
    exact f_mreti hx hb hr hlocks hI dX5_told_18 () (congrArg (fun z => some (Value.int z.1)) hE) trivial (congrArg (fun z => MO dA am z.2.1 T z.2.2 L kt tr) hE)
def g5_odds_35 (P : Nat → Nat → Int32) (G : Nat → Int32) (L : Nat → Nat → Int64) (S : Nat) (jx : Nat)  : Nat → Nat → Int64 → Int64 × (Nat → Nat → Int32) × (Nat → Int32)
  | 0, _, _ => (0, fun _ _ => 0, fun _ => 0)
  | n + 1, k5, x3 => if (P 7 0) ≤ (nI k5) then (x3, P, (d5_goThrough P G L jx S).2) else g5_odds_35 P G L S jx n (k5 + 1) (x3 * ((100 - (d5_slips P (cN ((L jx k5).toInt32)) k5)).toInt64))
def d5_odds (P : Nat → Nat → Int32) (G : Nat → Int32) (L : Nat → Nat → Int64) (x : Int32) (S : Nat) : Int64 × (Nat → Nat → Int32) × (Nat → Int32) := if ((d5_noClimb P x).1) = 0 then (if ((d5_goThrough P G L (cN x) S).1) = (-1) then g5_odds_35 P G L S (cN x) (S + 1) 0 1 else ((-(nI 5)).toInt64, up P 13 5 (P 13 5 + 1), (d5_goThrough P G L (cN x) S).2)) else (((d5_noClimb P x).1).toInt64, (d5_noClimb P x).2, G)
set_option maxHeartbeats 4000000 in
set_option maxRecDepth 100000 in
theorem m5_odds (l : Launch) (D : va_G) (dA : Nat → ClassId) (am : Nat → Nat) (P T : Nat → Nat → Int32) (G : Nat → Int32) (L : Nat → Nat → Int64) (kt tr : Option Nat) (sz : Nat) (S : Nat) (Wn : Nat) (x : Int32) (hst : P 7 0 = nI S) (hS : S ≤ 9) (hwt : P 7 1 = nI Wn) (hW : Wn ≤ 6) : Met l yX5_odds (ws_ yX5_odds cX5_odds 6 (some .long)) ({ frames := 3, cells := 0, slots := 0, locals := 69 } : Room) (fPm D dA (MO dA am P T G L kt tr) sz [.ref (am 0), .int x]) (fQm (S := Unit) D (MO dA am P T G L kt tr) sz (fun _ => some (.long ((d5_odds P G L x S).1))) (fun _ => True) (fun _ => MO dA am ((d5_odds P G L x S).2.1) T ((d5_odds P G L x S).2.2) L kt tr)) 0 0 (fA (MO dA am P T G L kt tr) sz) := by
  refine Met.ofW (cc := cX5_odds) (maxL := 6) (ret := (some .long)) (by decide) rfl ?_
  intro p e s m args below meth c s₁ B hml hv
  obtain ⟨rfl, hsz, hP0, hG, hD0⟩ := hv
  have hK := hG.1
  have hx := B.exec
  have hb := B.bytes
  have hr := B.returns
  have hts := atoms_spec (ws := (ws_ yX5_odds cX5_odds 6 (some .long))) B.pre
  have hts : ∀ w ∈ lw_all, w.before _ s = true := fun w h => hts w (List.mem_cons_of_mem _ h)
  have hown : s.vm.findClass RX5 = some m.cls := findClass_of_methodNamed B.named
  have hlocks := B.notSynchronized
  subst hsz
  have hI := FI.start hP0 hD0
  have hl := lv_entry ([.ref (am 0), .int x]) (n := 6) (Nat.le_of_ble_eq_true rfl)
  rw [lg_entry_eq]
  generalize (lg_sl ([.ref (am 0), .int x]) ++ List.replicate (6 - (lg_sl ([.ref (am 0), .int x])).length) Slot.unset).toArray = ls at hl ⊢
  have hl : lv_has ls 6 [(0, .ref (am 0)), (1, .int x)] := hl
  refine lv_aload_n hx hb dX5_odds_0 rfl (lv_at hl 0 rfl) ?_
  refine lv_iload_n hx hb dX5_odds_1 rfl (lv_at hl 1 rfl) ?_
  refine f_mV0 hx hb hml hown hts (m5_noClimb l D dA am P T G L kt tr _  x ) (cwV 1 hts (lw_V q1867 q1869 qs56 q79 q1870) rfl rfl rfl (by decide +kernel) ⟨Nat.le_of_ble_eq_true rfl, Nat.le_of_ble_eq_true rfl⟩) hG hI MO_0 rfl rfl hl.1 rfl (Nat.le_of_ble_eq_true rfl) dX5_odds_2 ⟨Nat.zero_le _, Nat.zero_le _⟩ (fun _ H locs _ hI => ?_)
  refine lv_istore_n (lv' := [(2, .int ((d5_noClimb P x).1)), (0, .ref (am 0)), (1, .int x)]) hx hb dX5_odds_5 rfl hl (by decide) rfl (fun ls hl => ?_)
  refine lv_iload_n hx hb dX5_odds_6 rfl (lv_at hl 0 rfl) ?_
  refine lv_if_eq (tgt := 13) hx hb dX5_odds_7 (by decide) (fun (c_7 : ((d5_noClimb P x).1) = 0) => ?_) (fun (c_7 : ¬ (((d5_noClimb P x).1) = 0)) => ?_)
  · obtain ⟨hno, jx, h_jx, rfl, hno2⟩ := noClimb_ok c_7
    simp only [hno] at hI
    refine lv_aload_n hx hb dX5_odds_13 rfl (lv_at hl 1 rfl) ?_
    refine lv_iload_n hx hb dX5_odds_14 rfl (lv_at hl 2 rfl) ?_
    refine f_mV0 hx hb hml hown hts (m5_goThrough l D dA am P T G L kt tr _ S Wn jx (by omega) hst hS hwt hW) (cwV 1 hts (lw_V q1871 q1873 qs57 q79 q1874) rfl rfl rfl (by decide +kernel) ⟨Nat.le_of_ble_eq_true rfl, Nat.le_of_ble_eq_true rfl⟩) hG hI MO_0 rfl rfl hl.1 rfl (Nat.le_of_ble_eq_true rfl) dX5_odds_15 ⟨Nat.zero_le _, Nat.zero_le _⟩ (fun _ H locs _ hI => ?_)
    refine lv_iconst (v := -1) hx hb dX5_odds_18 (by decide) ?_
    refine lv_icmp_eq (tgt := 30) hx hb dX5_odds_19 (by decide) (fun (c_19 : ((d5_goThrough P G L jx S).1) = (-1)) => ?_) (fun (c_19 : ¬ (((d5_goThrough P G L jx S).1) = (-1))) => ?_)
    · have hway := goThrough_ok hst hS hwt hW c_19
      refine lv_lconst (v := 1) hx hb dX5_odds_30 (by decide) ?_
      refine lv_lstore_n (lv' := [(3, .long 1), (2, .int ((d5_noClimb P (nI jx)).1)), (0, .ref (am 0)), (1, .int (nI jx))]) hx hb dX5_odds_31 rfl hl (by decide) rfl (fun ls hl => ?_)
      refine lv_iconst (v := 0) hx hb dX5_odds_32 (by decide) ?_
      refine lv_istore (lv' := [(5, .int 0), (3, .long 1), (2, .int ((d5_noClimb P (nI jx)).1)), (0, .ref (am 0)), (1, .int (nI jx))]) hx hb dX5_odds_33 hl (by decide) rfl (fun ls hl => ?_)
      have lp_35 : ∀ (n35 : Nat) (k5 : Nat) (x3 : Int64), (k5 ≤ S) → S - k5 < n35 → g5_odds_35 P G L S jx n35 k5 x3 = d5_odds P G L (nI jx) S → ∀ (H : Heap) (locs : List Loc), FI D gcl (fA (MO dA am P T G L kt tr) s.heap.size) s.heap (MO dA am P T ((d5_goThrough P G L jx S).2) L kt tr) H locs → ∀ (ls : Array Slot), lv_has ls 6 [(5, .int (nI k5)), (3, .long x3), (2, .int ((d5_noClimb P (nI jx)).1)), (0, .ref (am 0)), (1, .int (nI jx))] → W p l e (headSpec (ws_ yX5_odds cX5_odds 6 (some .long)) ({ frames := 3, cells := 0, slots := 0, locals := 69 } : Room)).room s m ([.ref (am 0), .int (nI jx)] : List Value).toArray below meth c H locs 0 0 (MQ below (fQm (S := Unit) D (MO dA am P T G L kt tr) s.heap.size (fun _ => some (.long ((d5_odds P G L (nI jx) S).1))) (fun _ => True) (fun _ => MO dA am ((d5_odds P G L (nI jx) S).2.1) T ((d5_odds P G L (nI jx) S).2.2) L kt tr)) ([.ref (am 0), .int (nI jx)] : List Value).toArray s 0 0 (fA (MO dA am P T G L kt tr) s.heap.size)) (F0 m 35 ls []) := by
        intro n35
        induction n35 with
        | zero => intro k5 x3 hk hM35; exact absurd hM35 (Nat.not_lt_zero _)
        | succ n35 ih35 =>
          intro k5 x3 hk hM35 hV H locs hI ls hl
          unfold g5_odds_35 at hV
          refine lv_iload hx hb dX5_odds_35 (lv_at hl 0 rfl) ?_
          refine lv_aload_n hx hb dX5_odds_37 rfl (lv_at hl 3 rfl) ?_
          refine f_get hx hb hts in_X5 hown hK hI.1 0 MO_0 rfl 9 (by decide) (hts _ q1519) (fun x h => h) rfl dX5_odds_38 ?_
          refine lv_icmp_ge (tgt := 73) hx hb dX5_odds_41 (by decide) (fun (c_41 : (P 7 0) ≤ (nI k5)) => ?_) (fun (c_41 : ¬ ((P 7 0) ≤ (nI k5))) => ?_)
          · have e_41 := (nat_le (a := S) (b := k5) hst rfl (by omega) (by omega)).mp c_41
            refine lv_lload_n hx hb dX5_odds_73 rfl (lv_at hl 1 rfl) ?_
            have hE : (x3, P, (d5_goThrough P G L jx S).2) = d5_odds P G L (nI jx) S := (by have z := hV; rw [if_pos c_41] at z; exact z)
            exact f_mretl hx hb hr hlocks hI dX5_odds_74 () (congrArg (fun z => some (Value.long z.1)) hE) trivial (congrArg (fun z => MO dA am z.2.1 T z.2.2 L kt tr) hE)
          · have e_41 := (not_congr (nat_le (a := S) (b := k5) hst rfl (by omega) (by omega))).mp c_41
            refine lv_lload_n hx hb dX5_odds_44 rfl (lv_at hl 1 rfl) ?_
            refine lv_bipush (v := 100) hx hb dX5_odds_45 (by decide) ?_
            refine lv_aload_n hx hb dX5_odds_47 rfl (lv_at hl 3 rfl) ?_
            refine lv_aload_n hx hb dX5_odds_48 rfl (lv_at hl 3 rfl) ?_
            refine f_get hx hb hts in_X5 hown hK hI.1 0 MO_0 rfl 3 (by decide) (hts _ q1513) (fun x h => h) rfl dX5_odds_49 ?_
            refine lv_iload_n hx hb dX5_odds_52 rfl (lv_at hl 4 rfl) ?_
            refine f_aldA hx hb hK hI.1 4 10 MO_4 rfl jx rfl (by omega) (by decide) rfl dX5_odds_53 ?_
            refine lv_iload hx hb dX5_odds_54 (lv_at hl 0 rfl) ?_
            obtain ⟨jw, hjw, hjL, -⟩ := hway k5 (by omega)
            have hjw2 : (L jx k5).toInt32 = nI jw := l2i_nat hjL (by omega)
            refine f_lald hx hb hK hI.1 (20 + jx) 3 (MO_row (by omega)) rfl k5 rfl (by omega) (by decide) dX5_odds_56 ?_
            refine lv_l2i (v := (L jx k5).toInt32) hx hb dX5_odds_57 rfl ?_
            refine lv_iload hx hb dX5_odds_58 (lv_at hl 0 rfl) ?_
            refine f_pV hx hb hml hown hts (m5_slips l D dA am P T ((d5_goThrough P G L jx S).2) L kt tr  jw k5 (by omega) (by omega)) (cwV 2 hts (lw_V q1672 q1674 qs35 q79 q1675) rfl rfl rfl (by decide +kernel) ⟨Nat.le_of_ble_eq_true rfl, Nat.le_of_ble_eq_true rfl⟩) hG hI.1 f_id MO_0 rfl rfl hl.1 (by rw [← hjw2]; rfl) (Nat.le_of_ble_eq_true rfl) dX5_odds_60 ⟨Nat.zero_le _, Nat.zero_le _⟩ ?_
            refine lv_isub hx hb dX5_odds_63 ?_
            refine lv_i2l (v := (100 - (d5_slips P jw k5)).toInt64) hx hb dX5_odds_64 rfl ?_
            refine lv_lmul hx hb dX5_odds_65 ?_
            refine lv_lstore_n (lv' := [(3, .long (x3 * ((100 - (d5_slips P jw k5)).toInt64))), (5, .int (nI k5)), (2, .int ((d5_noClimb P (nI jx)).1)), (0, .ref (am 0)), (1, .int (nI jx))]) hx hb dX5_odds_66 rfl hl (by decide) rfl (fun ls hl => ?_)
            refine lv_iinc (v := nI (k5 + 1)) (lv' := [(5, .int (nI (k5 + 1))), (3, .long (x3 * ((100 - (d5_slips P jw k5)).toInt64))), (2, .int ((d5_noClimb P (nI jx)).1)), (0, .ref (am 0)), (1, .int (nI jx))]) hx hb dX5_odds_67 hl (k := 1) rfl (nI_1 k5) (by decide) rfl (fun ls hl => ?_)
            refine lv_goto (tgt := 35) hx hb dX5_odds_70 (by decide) ?_
            exact ih35 (k5 + 1) (x3 * ((100 - (d5_slips P jw k5)).toInt64)) (by omega) (by omega) (by have z := hV; (try simp only [cN_of hjw2 (show jw < 65536 by omega)] at z); rw [if_neg c_41] at z; exact z) _ _ hI ls (lv_sub hl [0, 1, 2, 3, 4] rfl)
      exact lp_35 (S + 1) 0 1 (by omega) (by omega) (by unfold d5_odds; (try simp only [cN_nI (show jx < 65536 by omega)]); rw [if_pos c_7, if_pos c_19]) _ _ hI ls (lv_sub hl [0, 1, 2, 3, 4] rfl)
    · refine lv_aload_n hx hb dX5_odds_22 rfl (lv_at hl 1 rfl) ?_
      refine lv_bipush (v := -5) hx hb dX5_odds_23 (by decide) ?_
      refine f_mV0 hx hb hml hown hts (m5_refuse l D dA am P T ((d5_goThrough P G L jx S).2) L kt tr _  5 (by omega)) (cwV 1 hts (lw_V q1629 q1631 qs32 q79 q1632) rfl rfl rfl (by decide +kernel) ⟨Nat.le_of_ble_eq_true rfl, Nat.le_of_ble_eq_true rfl⟩) hG hI MO_0 rfl rfl hl.1 rfl (Nat.le_of_ble_eq_true rfl) dX5_odds_25 ⟨Nat.zero_le _, Nat.zero_le _⟩ (fun _ H locs _ hI => ?_)
      refine lv_i2l (v := (-(nI 5)).toInt64) hx hb dX5_odds_28 rfl ?_
      have hE : ((-(nI 5)).toInt64, up P 13 5 (P 13 5 + 1), (d5_goThrough P G L jx S).2) = d5_odds P G L (nI jx) S := (by unfold d5_odds; (try simp only [cN_nI (show jx < 65536 by omega)]); rw [if_pos c_7, if_neg c_19])
      exact f_mretl hx hb hr hlocks hI dX5_odds_29 () (congrArg (fun z => some (Value.long z.1)) hE) trivial (congrArg (fun z => MO dA am z.2.1 T z.2.2 L kt tr) hE)
  · refine lv_iload_n hx hb dX5_odds_10 rfl (lv_at hl 0 rfl) ?_
    refine lv_i2l (v := ((d5_noClimb P x).1).toInt64) hx hb dX5_odds_11 rfl ?_
    have hE : (((d5_noClimb P x).1).toInt64, (d5_noClimb P x).2, G) = d5_odds P G L x S := (by unfold d5_odds; rw [if_neg c_7])
    exact f_mretl hx hb hr hlocks hI dX5_odds_12 () (congrArg (fun z => some (Value.long z.1)) hE) trivial (congrArg (fun z => MO dA am z.2.1 T z.2.2 L kt tr) hE)
def d5_goesUp (P : Nat → Nat → Int32) (w : Nat) (i : Nat) : Int32 × (Nat → Nat → Int32) := if ((d5_draw P 100).1) < (d5_slips ((d5_draw P 100).2) w i) then (0, (d5_draw P 100).2) else (1, (d5_draw P 100).2)
set_option maxHeartbeats 4000000 in
set_option maxRecDepth 100000 in
theorem m5_goesUp (l : Launch) (D : va_G) (dA : Nat → ClassId) (am : Nat → Nat) (P T : Nat → Nat → Int32) (G : Nat → Int32) (L : Nat → Nat → Int64) (kt tr : Option Nat) (sz : Nat)  (w : Nat) (i : Nat) (h_w : w < 6) (h_i : i < 9) : Met l yX5_goesUp (ws_ yX5_goesUp cX5_goesUp 3 (some .boolean)) ({ frames := 2, cells := 0, slots := 0, locals := 46 } : Room) (fPm D dA (MO dA am P T G L kt tr) sz [.ref (am 0), .int (nI w), .int (nI i)]) (fQm (S := Unit) D (MO dA am P T G L kt tr) sz (fun _ => some (.int ((d5_goesUp P w i).1))) (fun _ => True) (fun _ => MO dA am ((d5_goesUp P w i).2) T G L kt tr)) 0 0 (fA (MO dA am P T G L kt tr) sz) := by
  refine Met.ofW (cc := cX5_goesUp) (maxL := 3) (ret := (some .boolean)) (by decide) rfl ?_
  intro p e s m args below meth c s₁ B hml hv
  obtain ⟨rfl, hsz, hP0, hG, hD0⟩ := hv
  have hK := hG.1
  have hx := B.exec
  have hb := B.bytes
  have hr := B.returns
  have hts := atoms_spec (ws := (ws_ yX5_goesUp cX5_goesUp 3 (some .boolean))) B.pre
  have hts : ∀ w ∈ lw_all, w.before _ s = true := fun w h => hts w (List.mem_cons_of_mem _ h)
  have hown : s.vm.findClass RX5 = some m.cls := findClass_of_methodNamed B.named
  have hlocks := B.notSynchronized
  subst hsz
  have hI := FI.start hP0 hD0
  have hl := lv_entry ([.ref (am 0), .int (nI w), .int (nI i)]) (n := 3) (Nat.le_of_ble_eq_true rfl)
  rw [lg_entry_eq]
  generalize (lg_sl ([.ref (am 0), .int (nI w), .int (nI i)]) ++ List.replicate (3 - (lg_sl ([.ref (am 0), .int (nI w), .int (nI i)])).length) Slot.unset).toArray = ls at hl ⊢
  have hl : lv_has ls 3 [(0, .ref (am 0)), (1, .int (nI w)), (2, .int (nI i))] := hl
  refine lv_aload_n hx hb dX5_goesUp_0 rfl (lv_at hl 0 rfl) ?_
  refine lv_bipush (v := 100) hx hb dX5_goesUp_1 (by decide) ?_
  refine f_mV0 hx hb hml hown hts (m5_draw l D dA am P T G L kt tr _  100 (by decide)) (cwV 1 hts (lw_V q1998 q2000 qs71 q79 q2001) rfl rfl rfl (by decide +kernel) ⟨Nat.le_of_ble_eq_true rfl, Nat.le_of_ble_eq_true rfl⟩) hG hI MO_0 rfl rfl hl.1 rfl (Nat.le_of_ble_eq_true rfl) dX5_goesUp_3 ⟨Nat.zero_le _, Nat.zero_le _⟩ (fun _ H locs _ hI => ?_)
  refine lv_aload_n hx hb dX5_goesUp_6 rfl (lv_at hl 0 rfl) ?_
  refine lv_iload_n hx hb dX5_goesUp_7 rfl (lv_at hl 1 rfl) ?_
  refine lv_iload_n hx hb dX5_goesUp_8 rfl (lv_at hl 2 rfl) ?_
  refine f_pV hx hb hml hown hts (m5_slips l D dA am ((d5_draw P 100).2) T G L kt tr  w i (by omega) (by omega)) (cwV 2 hts (lw_V q1672 q1674 qs35 q79 q1675) rfl rfl rfl (by decide +kernel) ⟨Nat.le_of_ble_eq_true rfl, Nat.le_of_ble_eq_true rfl⟩) hG hI.1 f_id MO_0 rfl rfl hl.1 rfl (Nat.le_of_ble_eq_true rfl) dX5_goesUp_9 ⟨Nat.zero_le _, Nat.zero_le _⟩ ?_
  refine lv_icmp_lt (tgt := 19) hx hb dX5_goesUp_12 (by decide) (fun (c_12 : ((d5_draw P 100).1) < (d5_slips ((d5_draw P 100).2) w i)) => ?_) (fun (c_12 : ¬ (((d5_draw P 100).1) < (d5_slips ((d5_draw P 100).2) w i))) => ?_)
  · refine lv_iconst (v := 0) hx hb dX5_goesUp_19 (by decide) ?_
    have hE : (0, (d5_draw P 100).2) = d5_goesUp P w i := (by unfold d5_goesUp; rw [if_pos c_12])
    exact f_mretz hx hb hr hlocks hI dX5_goesUp_20 rfl () (congrArg (fun z => some (Value.int z.1)) hE) trivial (congrArg (fun z => MO dA am z.2 T G L kt tr) hE)
  · refine lv_iconst (v := 1) hx hb dX5_goesUp_15 (by decide) ?_
    refine lv_goto (tgt := 20) hx hb dX5_goesUp_16 (by decide) ?_
    have hE : (1, (d5_draw P 100).2) = d5_goesUp P w i := (by unfold d5_goesUp; rw [if_neg c_12])
    exact f_mretz hx hb hr hlocks hI dX5_goesUp_20 rfl () (congrArg (fun z => some (Value.int z.1)) hE) trivial (congrArg (fun z => MO dA am z.2 T G L kt tr) hE)
theorem z5_goesUp {P : Nat → Nat → Int32} {w : Nat} {i : Nat} : narrow .boolean (.int ((d5_goesUp P w i).1)) = .int ((d5_goesUp P w i).1) := by
  unfold d5_goesUp
  split
  · first | rfl | (dsimp only; rfl)
  · first | rfl | (dsimp only; rfl)
theorem goesUp_st {P : Nat → Nat → Int32} {w i : Nat} : (d5_goesUp P w i).2 7 0 = P 7 0 := by unfold d5_goesUp d5_draw; split <;> rfl
def g5_climbs_30 (P : Nat → Nat → Int32) (G : Nat → Int32) (L : Nat → Nat → Int64) (S : Nat) (jx : Nat)  : Nat → Nat → (Nat → Nat → Int32) → Int32 × (Nat → Nat → Int32) × (Nat → Int32)
  | 0, _, _ => (0, fun _ _ => 0, fun _ => 0)
  | n + 1, k3, P1 => if (P1 7 0) ≤ (nI k3) then ((d5_ended P1 (nI k3)).1, (d5_ended P1 (nI k3)).2, (d5_goThrough P G L jx S).2) else (if ((d5_goesUp P1 (cN ((L jx k3).toInt32)) k3).1) = 0 then ((d5_ended ((d5_goesUp P1 (cN ((L jx k3).toInt32)) k3).2) (nI k3)).1, (d5_ended ((d5_goesUp P1 (cN ((L jx k3).toInt32)) k3).2) (nI k3)).2, (d5_goThrough P G L jx S).2) else g5_climbs_30 P G L S jx n (k3 + 1) ((d5_goesUp P1 (cN ((L jx k3).toInt32)) k3).2))
def d5_climbs (P : Nat → Nat → Int32) (G : Nat → Int32) (L : Nat → Nat → Int64) (x : Int32) (S : Nat) : Int32 × (Nat → Nat → Int32) × (Nat → Int32) := if ((d5_noClimb P x).1) = 0 then (if ((d5_goThrough P G L (cN x) S).1) = (-1) then g5_climbs_30 P G L S (cN x) (S + 1) 0 P else (-(nI 5), up P 13 5 (P 13 5 + 1), (d5_goThrough P G L (cN x) S).2)) else ((d5_noClimb P x).1, (d5_noClimb P x).2, G)
set_option maxHeartbeats 4000000 in
set_option maxRecDepth 100000 in
theorem m5_climbs (l : Launch) (D : va_G) (dA : Nat → ClassId) (am : Nat → Nat) (P T : Nat → Nat → Int32) (G : Nat → Int32) (L : Nat → Nat → Int64) (kt tr : Option Nat) (sz : Nat) (S : Nat) (Wn : Nat) (x : Int32) (hst : P 7 0 = nI S) (hS : S ≤ 9) (hwt : P 7 1 = nI Wn) (hW : Wn ≤ 6) : Met l yX5_climbs (ws_ yX5_climbs cX5_climbs 4 (some .int)) ({ frames := 3, cells := 0, slots := 0, locals := 69 } : Room) (fPm D dA (MO dA am P T G L kt tr) sz [.ref (am 0), .int x]) (fQm (S := Unit) D (MO dA am P T G L kt tr) sz (fun _ => some (.int ((d5_climbs P G L x S).1))) (fun _ => True) (fun _ => MO dA am ((d5_climbs P G L x S).2.1) T ((d5_climbs P G L x S).2.2) L kt tr)) 0 0 (fA (MO dA am P T G L kt tr) sz) := by
  refine Met.ofW (cc := cX5_climbs) (maxL := 4) (ret := (some .int)) (by decide) rfl ?_
  intro p e s m args below meth c s₁ B hml hv
  obtain ⟨rfl, hsz, hP0, hG, hD0⟩ := hv
  have hK := hG.1
  have hx := B.exec
  have hb := B.bytes
  have hr := B.returns
  have hts := atoms_spec (ws := (ws_ yX5_climbs cX5_climbs 4 (some .int))) B.pre
  have hts : ∀ w ∈ lw_all, w.before _ s = true := fun w h => hts w (List.mem_cons_of_mem _ h)
  have hown : s.vm.findClass RX5 = some m.cls := findClass_of_methodNamed B.named
  have hlocks := B.notSynchronized
  subst hsz
  have hI := FI.start hP0 hD0
  have hl := lv_entry ([.ref (am 0), .int x]) (n := 4) (Nat.le_of_ble_eq_true rfl)
  rw [lg_entry_eq]
  generalize (lg_sl ([.ref (am 0), .int x]) ++ List.replicate (4 - (lg_sl ([.ref (am 0), .int x])).length) Slot.unset).toArray = ls at hl ⊢
  have hl : lv_has ls 4 [(0, .ref (am 0)), (1, .int x)] := hl
  refine lv_aload_n hx hb dX5_climbs_0 rfl (lv_at hl 0 rfl) ?_
  refine lv_iload_n hx hb dX5_climbs_1 rfl (lv_at hl 1 rfl) ?_
  refine f_mV0 hx hb hml hown hts (m5_noClimb l D dA am P T G L kt tr _  x ) (cwV 1 hts (lw_V q1867 q1869 qs56 q79 q1870) rfl rfl rfl (by decide +kernel) ⟨Nat.le_of_ble_eq_true rfl, Nat.le_of_ble_eq_true rfl⟩) hG hI MO_0 rfl rfl hl.1 rfl (Nat.le_of_ble_eq_true rfl) dX5_climbs_2 ⟨Nat.zero_le _, Nat.zero_le _⟩ (fun _ H locs _ hI => ?_)
  refine lv_istore_n (lv' := [(2, .int ((d5_noClimb P x).1)), (0, .ref (am 0)), (1, .int x)]) hx hb dX5_climbs_5 rfl hl (by decide) rfl (fun ls hl => ?_)
  refine lv_iload_n hx hb dX5_climbs_6 rfl (lv_at hl 0 rfl) ?_
  refine lv_if_eq (tgt := 12) hx hb dX5_climbs_7 (by decide) (fun (c_7 : ((d5_noClimb P x).1) = 0) => ?_) (fun (c_7 : ¬ (((d5_noClimb P x).1) = 0)) => ?_)
  · obtain ⟨hno, jx, h_jx, rfl, hno2⟩ := noClimb_ok c_7
    simp only [hno] at hI
    refine lv_aload_n hx hb dX5_climbs_12 rfl (lv_at hl 1 rfl) ?_
    refine lv_iload_n hx hb dX5_climbs_13 rfl (lv_at hl 2 rfl) ?_
    refine f_mV0 hx hb hml hown hts (m5_goThrough l D dA am P T G L kt tr _ S Wn jx (by omega) hst hS hwt hW) (cwV 1 hts (lw_V q1871 q1873 qs57 q79 q1874) rfl rfl rfl (by decide +kernel) ⟨Nat.le_of_ble_eq_true rfl, Nat.le_of_ble_eq_true rfl⟩) hG hI MO_0 rfl rfl hl.1 rfl (Nat.le_of_ble_eq_true rfl) dX5_climbs_14 ⟨Nat.zero_le _, Nat.zero_le _⟩ (fun _ H locs _ hI => ?_)
    refine lv_iconst (v := -1) hx hb dX5_climbs_17 (by decide) ?_
    refine lv_icmp_eq (tgt := 28) hx hb dX5_climbs_18 (by decide) (fun (c_18 : ((d5_goThrough P G L jx S).1) = (-1)) => ?_) (fun (c_18 : ¬ (((d5_goThrough P G L jx S).1) = (-1))) => ?_)
    · have hway := goThrough_ok hst hS hwt hW c_18
      refine lv_iconst (v := 0) hx hb dX5_climbs_28 (by decide) ?_
      refine lv_istore_n (lv' := [(3, .int 0), (2, .int ((d5_noClimb P (nI jx)).1)), (0, .ref (am 0)), (1, .int (nI jx))]) hx hb dX5_climbs_29 rfl hl (by decide) rfl (fun ls hl => ?_)
      have lp_30 : ∀ (n30 : Nat) (k3 : Nat) (P1 : Nat → Nat → Int32), (k3 ≤ S) → (P1 7 0 = nI S) → S - k3 < n30 → g5_climbs_30 P G L S jx n30 k3 P1 = d5_climbs P G L (nI jx) S → ∀ (H : Heap) (locs : List Loc), FI D gcl (fA (MO dA am P T G L kt tr) s.heap.size) s.heap (MO dA am P1 T ((d5_goThrough P G L jx S).2) L kt tr) H locs → ∀ (ls : Array Slot), lv_has ls 4 [(3, .int (nI k3)), (2, .int ((d5_noClimb P (nI jx)).1)), (0, .ref (am 0)), (1, .int (nI jx))] → W p l e (headSpec (ws_ yX5_climbs cX5_climbs 4 (some .int)) ({ frames := 3, cells := 0, slots := 0, locals := 69 } : Room)).room s m ([.ref (am 0), .int (nI jx)] : List Value).toArray below meth c H locs 0 0 (MQ below (fQm (S := Unit) D (MO dA am P T G L kt tr) s.heap.size (fun _ => some (.int ((d5_climbs P G L (nI jx) S).1))) (fun _ => True) (fun _ => MO dA am ((d5_climbs P G L (nI jx) S).2.1) T ((d5_climbs P G L (nI jx) S).2.2) L kt tr)) ([.ref (am 0), .int (nI jx)] : List Value).toArray s 0 0 (fA (MO dA am P T G L kt tr) s.heap.size)) (F0 m 30 ls []) := by
        intro n30
        induction n30 with
        | zero => intro k3 P1 hk hst1 hM30; exact absurd hM30 (Nat.not_lt_zero _)
        | succ n30 ih30 =>
          intro k3 P1 hk hst1 hM30 hV H locs hI ls hl
          unfold g5_climbs_30 at hV
          refine lv_iload_n hx hb dX5_climbs_30 rfl (lv_at hl 0 rfl) ?_
          refine lv_aload_n hx hb dX5_climbs_31 rfl (lv_at hl 2 rfl) ?_
          refine f_get hx hb hts in_X5 hown hK hI.1 0 MO_0 rfl 9 (by decide) (hts _ q1519) (fun x h => h) rfl dX5_climbs_32 ?_
          refine lv_icmp_ge (tgt := 61) hx hb dX5_climbs_35 (by decide) (fun (c_35 : (P1 7 0) ≤ (nI k3)) => ?_) (fun (c_35 : ¬ ((P1 7 0) ≤ (nI k3))) => ?_)
          · have e_35 := (nat_le (a := S) (b := k3) hst1 rfl (by omega) (by omega)).mp c_35
            refine lv_aload_n hx hb dX5_climbs_61 rfl (lv_at hl 2 rfl) ?_
            refine lv_iload_n hx hb dX5_climbs_62 rfl (lv_at hl 0 rfl) ?_
            refine f_mV0 hx hb hml hown hts (m5_ended l D dA am P1 T ((d5_goThrough P G L jx S).2) L kt tr _  (nI k3) ) (cwV 1 hts (lw_V q2003 q2005 qs72 q79 q2006) rfl rfl rfl (by decide +kernel) ⟨Nat.le_of_ble_eq_true rfl, Nat.le_of_ble_eq_true rfl⟩) hG hI MO_0 rfl rfl hl.1 rfl (Nat.le_of_ble_eq_true rfl) dX5_climbs_63 ⟨Nat.zero_le _, Nat.zero_le _⟩ (fun _ H locs _ hI => ?_)
            have hE : ((d5_ended P1 (nI k3)).1, (d5_ended P1 (nI k3)).2, (d5_goThrough P G L jx S).2) = d5_climbs P G L (nI jx) S := (by have z := hV; rw [if_pos c_35] at z; exact z)
            exact f_mreti hx hb hr hlocks hI dX5_climbs_66 () (congrArg (fun z => some (Value.int z.1)) hE) trivial (congrArg (fun z => MO dA am z.2.1 T z.2.2 L kt tr) hE)
          · have e_35 := (not_congr (nat_le (a := S) (b := k3) hst1 rfl (by omega) (by omega))).mp c_35
            refine lv_aload_n hx hb dX5_climbs_38 rfl (lv_at hl 2 rfl) ?_
            refine lv_aload_n hx hb dX5_climbs_39 rfl (lv_at hl 2 rfl) ?_
            refine f_get hx hb hts in_X5 hown hK hI.1 0 MO_0 rfl 3 (by decide) (hts _ q1513) (fun x h => h) rfl dX5_climbs_40 ?_
            refine lv_iload_n hx hb dX5_climbs_43 rfl (lv_at hl 3 rfl) ?_
            refine f_aldA hx hb hK hI.1 4 10 MO_4 rfl jx rfl (by omega) (by decide) rfl dX5_climbs_44 ?_
            refine lv_iload_n hx hb dX5_climbs_45 rfl (lv_at hl 0 rfl) ?_
            obtain ⟨jw, hjw, hjL, -⟩ := hway k3 (by omega)
            have hjw2 : (L jx k3).toInt32 = nI jw := l2i_nat hjL (by omega)
            refine f_lald hx hb hK hI.1 (20 + jx) 3 (MO_row (by omega)) rfl k3 rfl (by omega) (by decide) dX5_climbs_46 ?_
            refine lv_l2i (v := (L jx k3).toInt32) hx hb dX5_climbs_47 rfl ?_
            refine lv_iload_n hx hb dX5_climbs_48 rfl (lv_at hl 0 rfl) ?_
            refine f_mV0 hx hb hml hown hts (m5_goesUp l D dA am P1 T ((d5_goThrough P G L jx S).2) L kt tr _  jw k3 (by omega) (by omega)) (cwV 2 hts (lw_V q1994 q1996 qs70 q79 q1997) rfl rfl rfl (by decide +kernel) ⟨Nat.le_of_ble_eq_true rfl, Nat.le_of_ble_eq_true rfl⟩) hG hI MO_0 rfl rfl hl.1 (by rw [← hjw2]; rfl) (Nat.le_of_ble_eq_true rfl) dX5_climbs_49 ⟨Nat.zero_le _, Nat.zero_le _⟩ (fun _ H locs _ hI => ?_)
            refine lv_if_eq (tgt := 61) hx hb dX5_climbs_52 (by decide) (fun (c_52 : ((d5_goesUp P1 jw k3).1) = 0) => ?_) (fun (c_52 : ¬ (((d5_goesUp P1 jw k3).1) = 0)) => ?_)
            · refine lv_aload_n hx hb dX5_climbs_61 rfl (lv_at hl 2 rfl) ?_
              refine lv_iload_n hx hb dX5_climbs_62 rfl (lv_at hl 0 rfl) ?_
              refine f_mV0 hx hb hml hown hts (m5_ended l D dA am ((d5_goesUp P1 jw k3).2) T ((d5_goThrough P G L jx S).2) L kt tr _  (nI k3) ) (cwV 1 hts (lw_V q2003 q2005 qs72 q79 q2006) rfl rfl rfl (by decide +kernel) ⟨Nat.le_of_ble_eq_true rfl, Nat.le_of_ble_eq_true rfl⟩) hG hI MO_0 rfl rfl hl.1 rfl (Nat.le_of_ble_eq_true rfl) dX5_climbs_63 ⟨Nat.zero_le _, Nat.zero_le _⟩ (fun _ H locs _ hI => ?_)
              have hE : ((d5_ended ((d5_goesUp P1 jw k3).2) (nI k3)).1, (d5_ended ((d5_goesUp P1 jw k3).2) (nI k3)).2, (d5_goThrough P G L jx S).2) = d5_climbs P G L (nI jx) S := (by have z := hV; (try simp only [cN_of hjw2 (show jw < 65536 by omega)] at z); rw [if_neg c_35, if_pos c_52] at z; exact z)
              exact f_mreti hx hb hr hlocks hI dX5_climbs_66 () (congrArg (fun z => some (Value.int z.1)) hE) trivial (congrArg (fun z => MO dA am z.2.1 T z.2.2 L kt tr) hE)
            · refine lv_iinc (v := nI (k3 + 1)) (lv' := [(3, .int (nI (k3 + 1))), (2, .int ((d5_noClimb P (nI jx)).1)), (0, .ref (am 0)), (1, .int (nI jx))]) hx hb dX5_climbs_55 hl (k := 0) rfl (nI_1 k3) (by decide) rfl (fun ls hl => ?_)
              refine lv_goto (tgt := 30) hx hb dX5_climbs_58 (by decide) ?_
              exact ih30 (k3 + 1) ((d5_goesUp P1 jw k3).2) (by omega) (by rw [goesUp_st]; exact hst1) (by omega) (by have z := hV; (try simp only [cN_of hjw2 (show jw < 65536 by omega)] at z); rw [if_neg c_35, if_neg c_52] at z; exact z) _ _ hI ls (lv_sub hl [0, 1, 2, 3] rfl)
      exact lp_30 (S + 1) 0 P (by omega) hst (by omega) (by unfold d5_climbs; (try simp only [cN_nI (show jx < 65536 by omega)]); rw [if_pos c_7, if_pos c_18]) _ _ hI ls (lv_sub hl [0, 1, 2, 3] rfl)
    · refine lv_aload_n hx hb dX5_climbs_21 rfl (lv_at hl 1 rfl) ?_
      refine lv_bipush (v := -5) hx hb dX5_climbs_22 (by decide) ?_
      refine f_mV0 hx hb hml hown hts (m5_refuse l D dA am P T ((d5_goThrough P G L jx S).2) L kt tr _  5 (by omega)) (cwV 1 hts (lw_V q1629 q1631 qs32 q79 q1632) rfl rfl rfl (by decide +kernel) ⟨Nat.le_of_ble_eq_true rfl, Nat.le_of_ble_eq_true rfl⟩) hG hI MO_0 rfl rfl hl.1 rfl (Nat.le_of_ble_eq_true rfl) dX5_climbs_24 ⟨Nat.zero_le _, Nat.zero_le _⟩ (fun _ H locs _ hI => ?_)
      have hE : (-(nI 5), up P 13 5 (P 13 5 + 1), (d5_goThrough P G L jx S).2) = d5_climbs P G L (nI jx) S := (by unfold d5_climbs; (try simp only [cN_nI (show jx < 65536 by omega)]); rw [if_pos c_7, if_neg c_18])
      exact f_mreti hx hb hr hlocks hI dX5_climbs_27 () (congrArg (fun z => some (Value.int z.1)) hE) trivial (congrArg (fun z => MO dA am z.2.1 T z.2.2 L kt tr) hE)
  · refine lv_iload_n hx hb dX5_climbs_10 rfl (lv_at hl 0 rfl) ?_
    have hE : ((d5_noClimb P x).1, (d5_noClimb P x).2, G) = d5_climbs P G L x S := (by unfold d5_climbs; rw [if_neg c_7])
    exact f_mreti hx hb hr hlocks hI dX5_climbs_11 () (congrArg (fun z => some (Value.int z.1)) hE) trivial (congrArg (fun z => MO dA am z.2.1 T z.2.2 L kt tr) hE)
def g5_soonest_25 (P : Nat → Nat → Int32)  : Nat → Nat → Int32 → Int32 × (Nat → Nat → Int32)
  | 0, _, _ => (0, fun _ _ => 0)
  | n + 1, k2, x1 => if (P 7 1) ≤ (nI k2) then (x1, P) else (if (d5_load P k2 0) ≤ 200 then (if (d5_weeksBy P (d5_load P k2 0)) = (-1) then g5_soonest_25 P n (k2 + 1) x1 else (if x1 = (-1) then g5_soonest_25 P n (k2 + 1) (d5_weeksBy P (d5_load P k2 0)) else (if x1 ≤ (d5_weeksBy P (d5_load P k2 0)) then g5_soonest_25 P n (k2 + 1) x1 else g5_soonest_25 P n (k2 + 1) (d5_weeksBy P (d5_load P k2 0))))) else g5_soonest_25 P n (k2 + 1) x1)
def d5_soonest (P : Nat → Nat → Int32) (Wn : Nat) : Int32 × (Nat → Nat → Int32) := if (P 7 0) = 0 then (-(nI 5), up P 13 5 (P 13 5 + 1)) else (if (P 7 1) = 0 then (-(nI 5), up P 13 5 (P 13 5 + 1)) else g5_soonest_25 P (Wn + 1) 0 (-1))
set_option maxHeartbeats 4000000 in
set_option maxRecDepth 100000 in
theorem m5_soonest (l : Launch) (D : va_G) (dA : Nat → ClassId) (am : Nat → Nat) (P T : Nat → Nat → Int32) (G : Nat → Int32) (L : Nat → Nat → Int64) (kt tr : Option Nat) (sz : Nat) (S : Nat) (Wn : Nat)  (hst : P 7 0 = nI S) (hS : S ≤ 9) (hwt : P 7 1 = nI Wn) (hW : Wn ≤ 6) : Met l yX5_soonest (ws_ yX5_soonest cX5_soonest 4 (some .int)) ({ frames := 3, cells := 0, slots := 0, locals := 72 } : Room) (fPm D dA (MO dA am P T G L kt tr) sz [.ref (am 0)]) (fQm (S := Unit) D (MO dA am P T G L kt tr) sz (fun _ => some (.int ((d5_soonest P Wn).1))) (fun _ => True) (fun _ => MO dA am ((d5_soonest P Wn).2) T G L kt tr)) 0 0 (fA (MO dA am P T G L kt tr) sz) := by
  refine Met.ofW (cc := cX5_soonest) (maxL := 4) (ret := (some .int)) (by decide) rfl ?_
  intro p e s m args below meth c s₁ B hml hv
  obtain ⟨rfl, hsz, hP0, hG, hD0⟩ := hv
  have hK := hG.1
  have hx := B.exec
  have hb := B.bytes
  have hr := B.returns
  have hts := atoms_spec (ws := (ws_ yX5_soonest cX5_soonest 4 (some .int))) B.pre
  have hts : ∀ w ∈ lw_all, w.before _ s = true := fun w h => hts w (List.mem_cons_of_mem _ h)
  have hown : s.vm.findClass RX5 = some m.cls := findClass_of_methodNamed B.named
  have hlocks := B.notSynchronized
  subst hsz
  have hI := FI.start hP0 hD0
  have hl := lv_entry ([.ref (am 0)]) (n := 4) (Nat.le_of_ble_eq_true rfl)
  rw [lg_entry_eq]
  generalize (lg_sl ([.ref (am 0)]) ++ List.replicate (4 - (lg_sl ([.ref (am 0)])).length) Slot.unset).toArray = ls at hl ⊢
  have hl : lv_has ls 4 [(0, .ref (am 0))] := hl
  refine lv_aload_n hx hb dX5_soonest_0 rfl (lv_at hl 0 rfl) ?_
  refine f_get hx hb hts in_X5 hown hK hI.1 0 MO_0 rfl 9 (by decide) (hts _ q1519) (fun x h => h) rfl dX5_soonest_1 ?_
  refine lv_if_eq (tgt := 14) hx hb dX5_soonest_4 (by decide) (fun c_4 => ?_) (fun c_4 => ?_)
  · have e_4 := (nat_eq (a := S) (b := 0) hst rfl (by omega) (by omega)).mp c_4
    refine lv_aload_n hx hb dX5_soonest_14 rfl (lv_at hl 0 rfl) ?_
    refine lv_bipush (v := -5) hx hb dX5_soonest_15 (by decide) ?_
    refine f_mV0 hx hb hml hown hts (m5_refuse l D dA am P T G L kt tr _  5 (by omega)) (cwV 1 hts (lw_V q1629 q1631 qs32 q79 q1632) rfl rfl rfl (by decide +kernel) ⟨Nat.le_of_ble_eq_true rfl, Nat.le_of_ble_eq_true rfl⟩) hG hI MO_0 rfl rfl hl.1 rfl (Nat.le_of_ble_eq_true rfl) dX5_soonest_17 ⟨Nat.zero_le _, Nat.zero_le _⟩ (fun _ H locs _ hI => ?_)
    have hE : (-(nI 5), up P 13 5 (P 13 5 + 1)) = d5_soonest P Wn := (by unfold d5_soonest; rw [if_pos c_4])
    exact f_mreti hx hb hr hlocks hI dX5_soonest_20 () (congrArg (fun z => some (Value.int z.1)) hE) trivial (congrArg (fun z => MO dA am z.2 T G L kt tr) hE)
  · have e_4 := (not_congr (nat_eq (a := S) (b := 0) hst rfl (by omega) (by omega))).mp c_4
    refine lv_aload_n hx hb dX5_soonest_7 rfl (lv_at hl 0 rfl) ?_
    refine f_get hx hb hts in_X5 hown hK hI.1 0 MO_0 rfl 14 (by decide) (hts _ q1524) (fun x h => h) rfl dX5_soonest_8 ?_
    refine lv_if_ne (tgt := 21) hx hb dX5_soonest_11 (by decide) (fun c_11 => ?_) (fun c_11 => ?_)
    · have e_11 := (not_congr (nat_eq (a := Wn) (b := 0) hwt rfl (by omega) (by omega))).mp c_11
      refine lv_iconst (v := -1) hx hb dX5_soonest_21 (by decide) ?_
      refine lv_istore_n (lv' := [(1, .int (-1)), (0, .ref (am 0))]) hx hb dX5_soonest_22 rfl hl (by decide) rfl (fun ls hl => ?_)
      refine lv_iconst (v := 0) hx hb dX5_soonest_23 (by decide) ?_
      refine lv_istore_n (lv' := [(2, .int 0), (1, .int (-1)), (0, .ref (am 0))]) hx hb dX5_soonest_24 rfl hl (by decide) rfl (fun ls hl => ?_)
      have lp_25 : ∀ (n25 : Nat) (k2 : Nat) (x1 : Int32), (k2 ≤ Wn) → Wn - k2 < n25 → g5_soonest_25 P n25 k2 x1 = d5_soonest P Wn → ∀ (H : Heap) (locs : List Loc), FI D gcl (fA (MO dA am P T G L kt tr) s.heap.size) s.heap (MO dA am P T G L kt tr) H locs → ∀ (ls : Array Slot), lv_has ls 4 [(2, .int (nI k2)), (1, .int x1), (0, .ref (am 0))] → W p l e (headSpec (ws_ yX5_soonest cX5_soonest 4 (some .int)) ({ frames := 3, cells := 0, slots := 0, locals := 72 } : Room)).room s m ([.ref (am 0)] : List Value).toArray below meth c H locs 0 0 (MQ below (fQm (S := Unit) D (MO dA am P T G L kt tr) s.heap.size (fun _ => some (.int ((d5_soonest P Wn).1))) (fun _ => True) (fun _ => MO dA am ((d5_soonest P Wn).2) T G L kt tr)) ([.ref (am 0)] : List Value).toArray s 0 0 (fA (MO dA am P T G L kt tr) s.heap.size)) (F0 m 25 ls []) := by
        intro n25
        induction n25 with
        | zero => intro k2 x1 hk hM25; exact absurd hM25 (Nat.not_lt_zero _)
        | succ n25 ih25 =>
          intro k2 x1 hk hM25 hV H locs hI ls hl
          unfold g5_soonest_25 at hV
          refine lv_iload_n hx hb dX5_soonest_25 rfl (lv_at hl 0 rfl) ?_
          refine lv_aload_n hx hb dX5_soonest_26 rfl (lv_at hl 2 rfl) ?_
          refine f_get hx hb hts in_X5 hown hK hI.1 0 MO_0 rfl 14 (by decide) (hts _ q1524) (fun x h => h) rfl dX5_soonest_27 ?_
          refine lv_icmp_ge (tgt := 87) hx hb dX5_soonest_30 (by decide) (fun c_30 => ?_) (fun c_30 => ?_)
          · have e_30 := (nat_le (a := Wn) (b := k2) hwt rfl (by omega) (by omega)).mp c_30
            refine lv_iload_n hx hb dX5_soonest_87 rfl (lv_at hl 1 rfl) ?_
            have hE : (x1, P) = d5_soonest P Wn := (by have z := hV; rw [if_pos c_30] at z; exact z)
            exact f_mreti hx hb hr hlocks hI dX5_soonest_88 () (congrArg (fun z => some (Value.int z.1)) hE) trivial (congrArg (fun z => MO dA am z.2 T G L kt tr) hE)
          · have e_30 := (not_congr (nat_le (a := Wn) (b := k2) hwt rfl (by omega) (by omega))).mp c_30
            refine lv_aload_n hx hb dX5_soonest_33 rfl (lv_at hl 2 rfl) ?_
            refine lv_iload_n hx hb dX5_soonest_34 rfl (lv_at hl 0 rfl) ?_
            refine lv_iconst (v := 0) hx hb dX5_soonest_35 (by decide) ?_
            refine f_pV hx hb hml hown hts (m5_load l D dA am P T G L kt tr  k2 0 (by omega) (by omega)) (cwV 2 hts (lw_V q1684 q1686 qs38 q79 q1687) rfl rfl rfl (by decide +kernel) ⟨Nat.le_of_ble_eq_true rfl, Nat.le_of_ble_eq_true rfl⟩) hG hI.1 f_id MO_0 rfl rfl hl.1 rfl (Nat.le_of_ble_eq_true rfl) dX5_soonest_36 ⟨Nat.zero_le _, Nat.zero_le _⟩ ?_
            refine lv_sipush (v := 200) hx hb dX5_soonest_39 (by decide) ?_
            refine lv_icmp_le (tgt := 49) hx hb dX5_soonest_42 (by decide) (fun c_42 => ?_) (fun c_42 => ?_)
            · refine lv_aload_n hx hb dX5_soonest_49 rfl (lv_at hl 2 rfl) ?_
              refine lv_aload_n hx hb dX5_soonest_50 rfl (lv_at hl 2 rfl) ?_
              refine lv_iload_n hx hb dX5_soonest_51 rfl (lv_at hl 0 rfl) ?_
              refine lv_iconst (v := 0) hx hb dX5_soonest_52 (by decide) ?_
              refine f_pV hx hb hml hown hts (m5_load l D dA am P T G L kt tr  k2 0 (by omega) (by omega)) (cwV 2 hts (lw_V q1684 q1686 qs38 q79 q1687) rfl rfl rfl (by decide +kernel) ⟨Nat.le_of_ble_eq_true rfl, Nat.le_of_ble_eq_true rfl⟩) hG hI.1 f_id MO_0 rfl rfl hl.1 rfl (Nat.le_of_ble_eq_true rfl) dX5_soonest_53 ⟨Nat.zero_le _, Nat.zero_le _⟩ ?_
              refine f_pV hx hb hml hown hts (m5_weeksBy l D dA am P T G L kt tr  (d5_load P k2 0) ) (cwV 1 hts (lw_V q1978 q1980 qs69 q79 q1981) rfl rfl rfl (by decide +kernel) ⟨Nat.le_of_ble_eq_true rfl, Nat.le_of_ble_eq_true rfl⟩) hG hI.1 f_id MO_0 rfl rfl hl.1 rfl (Nat.le_of_ble_eq_true rfl) dX5_soonest_56 ⟨Nat.zero_le _, Nat.zero_le _⟩ ?_
              refine lv_istore_n (lv' := [(3, .int (d5_weeksBy P (d5_load P k2 0))), (2, .int (nI k2)), (1, .int x1), (0, .ref (am 0))]) hx hb dX5_soonest_59 rfl hl (by decide) rfl (fun ls hl => ?_)
              refine lv_iload_n hx hb dX5_soonest_60 rfl (lv_at hl 0 rfl) ?_
              refine lv_iconst (v := -1) hx hb dX5_soonest_61 (by decide) ?_
              refine lv_icmp_eq (tgt := 79) hx hb dX5_soonest_62 (by decide) (fun c_62 => ?_) (fun c_62 => ?_)
              · refine lv_iload_n hx hb dX5_soonest_79 rfl (lv_at hl 2 rfl) ?_
                refine lv_istore_n (lv' := [(1, .int x1), (3, .int (d5_weeksBy P (d5_load P k2 0))), (2, .int (nI k2)), (0, .ref (am 0))]) hx hb dX5_soonest_80 rfl hl (by decide) rfl (fun ls hl => ?_)
                refine lv_iinc (v := nI (k2 + 1)) (lv' := [(2, .int (nI (k2 + 1))), (1, .int x1), (3, .int (d5_weeksBy P (d5_load P k2 0))), (0, .ref (am 0))]) hx hb dX5_soonest_81 hl (k := 2) rfl (nI_1 k2) (by decide) rfl (fun ls hl => ?_)
                refine lv_goto (tgt := 25) hx hb dX5_soonest_84 (by decide) ?_
                exact ih25 (k2 + 1) x1 (by omega) (by omega) (by have z := hV; rw [if_neg c_30, if_pos c_42, if_pos c_62] at z; exact z) _ _ hI ls (lv_sub hl [0, 1, 3] rfl)
              · refine lv_iload_n hx hb dX5_soonest_65 rfl (lv_at hl 2 rfl) ?_
                refine lv_iconst (v := -1) hx hb dX5_soonest_66 (by decide) ?_
                refine lv_icmp_eq (tgt := 75) hx hb dX5_soonest_67 (by decide) (fun c_67 => ?_) (fun c_67 => ?_)
                · refine lv_iload_n hx hb dX5_soonest_75 rfl (lv_at hl 0 rfl) ?_
                  refine lv_goto (tgt := 80) hx hb dX5_soonest_76 (by decide) ?_
                  refine lv_istore_n (lv' := [(1, .int (d5_weeksBy P (d5_load P k2 0))), (3, .int (d5_weeksBy P (d5_load P k2 0))), (2, .int (nI k2)), (0, .ref (am 0))]) hx hb dX5_soonest_80 rfl hl (by decide) rfl (fun ls hl => ?_)
                  refine lv_iinc (v := nI (k2 + 1)) (lv' := [(2, .int (nI (k2 + 1))), (1, .int (d5_weeksBy P (d5_load P k2 0))), (3, .int (d5_weeksBy P (d5_load P k2 0))), (0, .ref (am 0))]) hx hb dX5_soonest_81 hl (k := 2) rfl (nI_1 k2) (by decide) rfl (fun ls hl => ?_)
                  refine lv_goto (tgt := 25) hx hb dX5_soonest_84 (by decide) ?_
                  exact ih25 (k2 + 1) (d5_weeksBy P (d5_load P k2 0)) (by omega) (by omega) (by have z := hV; rw [if_neg c_30, if_pos c_42, if_neg c_62, if_pos c_67] at z; exact z) _ _ hI ls (lv_sub hl [0, 1, 3] rfl)
                · refine lv_iload_n hx hb dX5_soonest_70 rfl (lv_at hl 0 rfl) ?_
                  refine lv_iload_n hx hb dX5_soonest_71 rfl (lv_at hl 2 rfl) ?_
                  refine lv_icmp_ge (tgt := 79) hx hb dX5_soonest_72 (by decide) (fun c_72 => ?_) (fun c_72 => ?_)
                  · refine lv_iload_n hx hb dX5_soonest_79 rfl (lv_at hl 2 rfl) ?_
                    refine lv_istore_n (lv' := [(1, .int x1), (3, .int (d5_weeksBy P (d5_load P k2 0))), (2, .int (nI k2)), (0, .ref (am 0))]) hx hb dX5_soonest_80 rfl hl (by decide) rfl (fun ls hl => ?_)
                    refine lv_iinc (v := nI (k2 + 1)) (lv' := [(2, .int (nI (k2 + 1))), (1, .int x1), (3, .int (d5_weeksBy P (d5_load P k2 0))), (0, .ref (am 0))]) hx hb dX5_soonest_81 hl (k := 2) rfl (nI_1 k2) (by decide) rfl (fun ls hl => ?_)
                    refine lv_goto (tgt := 25) hx hb dX5_soonest_84 (by decide) ?_
                    exact ih25 (k2 + 1) x1 (by omega) (by omega) (by have z := hV; rw [if_neg c_30, if_pos c_42, if_neg c_62, if_neg c_67, if_pos c_72] at z; exact z) _ _ hI ls (lv_sub hl [0, 1, 3] rfl)
                  · refine lv_iload_n hx hb dX5_soonest_75 rfl (lv_at hl 0 rfl) ?_
                    refine lv_goto (tgt := 80) hx hb dX5_soonest_76 (by decide) ?_
                    refine lv_istore_n (lv' := [(1, .int (d5_weeksBy P (d5_load P k2 0))), (3, .int (d5_weeksBy P (d5_load P k2 0))), (2, .int (nI k2)), (0, .ref (am 0))]) hx hb dX5_soonest_80 rfl hl (by decide) rfl (fun ls hl => ?_)
                    refine lv_iinc (v := nI (k2 + 1)) (lv' := [(2, .int (nI (k2 + 1))), (1, .int (d5_weeksBy P (d5_load P k2 0))), (3, .int (d5_weeksBy P (d5_load P k2 0))), (0, .ref (am 0))]) hx hb dX5_soonest_81 hl (k := 2) rfl (nI_1 k2) (by decide) rfl (fun ls hl => ?_)
                    refine lv_goto (tgt := 25) hx hb dX5_soonest_84 (by decide) ?_
                    exact ih25 (k2 + 1) (d5_weeksBy P (d5_load P k2 0)) (by omega) (by omega) (by have z := hV; rw [if_neg c_30, if_pos c_42, if_neg c_62, if_neg c_67, if_neg c_72] at z; exact z) _ _ hI ls (lv_sub hl [0, 1, 3] rfl)
            · refine lv_iconst (v := -1) hx hb dX5_soonest_45 (by decide) ?_
              refine lv_goto (tgt := 59) hx hb dX5_soonest_46 (by decide) ?_
              refine lv_istore_n (lv' := [(3, .int (-1)), (2, .int (nI k2)), (1, .int x1), (0, .ref (am 0))]) hx hb dX5_soonest_59 rfl hl (by decide) rfl (fun ls hl => ?_)
              refine lv_iload_n hx hb dX5_soonest_60 rfl (lv_at hl 0 rfl) ?_
              refine lv_iconst (v := -1) hx hb dX5_soonest_61 (by decide) ?_
              refine lv_icmp_eq (tgt := 79) hx hb dX5_soonest_62 (by decide) (fun _ => ?_) (fun c => absurd c (by decide))
              refine lv_iload_n hx hb dX5_soonest_79 rfl (lv_at hl 2 rfl) ?_
              refine lv_istore_n (lv' := [(1, .int x1), (3, .int (-1)), (2, .int (nI k2)), (0, .ref (am 0))]) hx hb dX5_soonest_80 rfl hl (by decide) rfl (fun ls hl => ?_)
              refine lv_iinc (v := nI (k2 + 1)) (lv' := [(2, .int (nI (k2 + 1))), (1, .int x1), (3, .int (-1)), (0, .ref (am 0))]) hx hb dX5_soonest_81 hl (k := 2) rfl (nI_1 k2) (by decide) rfl (fun ls hl => ?_)
              refine lv_goto (tgt := 25) hx hb dX5_soonest_84 (by decide) ?_
              exact ih25 (k2 + 1) x1 (by omega) (by omega) (by have z := hV; rw [if_neg c_30, if_neg c_42] at z; exact z) _ _ hI ls (lv_sub hl [0, 1, 3] rfl)
      exact lp_25 (Wn + 1) 0 (-1) (by omega) (by omega) (by unfold d5_soonest; rw [if_neg c_4, if_neg c_11]) _ _ hI ls (lv_sub hl [0, 1, 2] rfl)
    · have e_11 := (nat_eq (a := Wn) (b := 0) hwt rfl (by omega) (by omega)).mp c_11
      refine lv_aload_n hx hb dX5_soonest_14 rfl (lv_at hl 0 rfl) ?_
      refine lv_bipush (v := -5) hx hb dX5_soonest_15 (by decide) ?_
      refine f_mV0 hx hb hml hown hts (m5_refuse l D dA am P T G L kt tr _  5 (by omega)) (cwV 1 hts (lw_V q1629 q1631 qs32 q79 q1632) rfl rfl rfl (by decide +kernel) ⟨Nat.le_of_ble_eq_true rfl, Nat.le_of_ble_eq_true rfl⟩) hG hI MO_0 rfl rfl hl.1 rfl (Nat.le_of_ble_eq_true rfl) dX5_soonest_17 ⟨Nat.zero_le _, Nat.zero_le _⟩ (fun _ H locs _ hI => ?_)
      have hE : (-(nI 5), up P 13 5 (P 13 5 + 1)) = d5_soonest P Wn := (by unfold d5_soonest; rw [if_neg c_4, if_pos c_11])
      exact f_mreti hx hb hr hlocks hI dX5_soonest_20 () (congrArg (fun z => some (Value.int z.1)) hE) trivial (congrArg (fun z => MO dA am z.2 T G L kt tr) hE)
def g5_status_79 (P : Nat → Nat → Int32)  : Nat → Nat → Int32 → Int32
  | 0, _, _ => 0
  | n + 1, k3, x2 => if (P 7 0) ≤ (nI k3) then x2 else g5_status_79 P n (k3 + 1) (x2 + (P 0 k3))
def g5_status_116 (P : Nat → Nat → Int32)  : Nat → Nat → Int32 → Int32
  | 0, _, _ => 0
  | n + 1, k3, x2 => if 8 ≤ (nI k3) then x2 else (if (P 8 k3) = 0 then g5_status_116 P n (k3 + 1) (x2 + 0) else g5_status_116 P n (k3 + 1) (x2 + 1))
def d5_status (P : Nat → Nat → Int32) (G : Nat → Int32) (x : Int32) (S : Nat) : Int32 := if x = 0 then P 7 0 else (if x = 1 then P 7 1 else (if x = 2 then P 7 2 else (if x = 3 then P 7 3 else (if x = 4 then P 7 4 else (if x = 5 then g5_status_79 P (S + 1) 0 0 else (if x = 6 then G 0 else (if x = 7 then P 7 5 else (if x = 8 then g5_status_116 P 9 0 0 else (if (d5_in x.toInt64 12 16) = 0 then (-1) else P 13 ((cN x) - 10))))))))))
set_option maxHeartbeats 4000000 in
set_option maxRecDepth 100000 in
theorem m5_status (l : Launch) (D : va_G) (dA : Nat → ClassId) (am : Nat → Nat) (P T : Nat → Nat → Int32) (G : Nat → Int32) (L : Nat → Nat → Int64) (kt tr : Option Nat) (S : Nat) (x : Int32) (hst : P 7 0 = nI S) (hS : S ≤ 9) : Met l yX5_status (ws_ yX5_status cX5_status 4 (some .int)) ({ frames := 1, cells := 0, slots := 0, locals := 25 } : Room) (fPc D dA (MO dA am P T G L kt tr) [.ref (am 0), .int x]) (fQp (.int (d5_status P G x S))) 0 0 (fun _ => False) := by
  refine Met.ofW (cc := cX5_status) (maxL := 4) (ret := (some .int)) (by decide) rfl ?_
  intro p e s m args below meth c s₁ B hml hv
  obtain ⟨rfl, hP, hG⟩ := hv
  have hK := hG.1
  have hx := B.exec
  have hb := B.bytes
  have hr := B.returns
  have hts := atoms_spec (ws := (ws_ yX5_status cX5_status 4 (some .int))) B.pre
  have hts : ∀ w ∈ lw_all, w.before _ s = true := fun w h => hts w (List.mem_cons_of_mem _ h)
  have hown : s.vm.findClass RX5 = some m.cls := findClass_of_methodNamed B.named
  have hlocks := B.notSynchronized
  have hl := lv_entry ([.ref (am 0), .int x]) (n := 4) (Nat.le_of_ble_eq_true rfl)
  rw [lg_entry_eq]
  generalize (lg_sl ([.ref (am 0), .int x]) ++ List.replicate (4 - (lg_sl ([.ref (am 0), .int x])).length) Slot.unset).toArray = ls at hl ⊢
  have hl : lv_has ls 4 [(0, .ref (am 0)), (1, .int x)] := hl
  refine lv_iconst (v := 0) hx hb dX5_status_0 (by decide) ?_
  refine lv_istore_n (lv' := [(2, .int 0), (0, .ref (am 0)), (1, .int x)]) hx hb dX5_status_1 rfl hl (by decide) rfl (fun ls hl => ?_)
  refine lv_iload_n hx hb dX5_status_2 rfl (lv_at hl 2 rfl) ?_
  refine f_swCase (x = 0) (fun c_3_0 => ?_) (fun c_3_0 => ?_)
  · refine lv_tableIn (tgt := 52) hx hb dX5_status_3 (by rw [c_3_0]; decide) (by rw [c_3_0]; decide) (by rw [c_3_0]; rfl) (by decide) ?_
    refine lv_aload_n hx hb dX5_status_52 rfl (lv_at hl 1 rfl) ?_
    refine f_get hx hb hts in_X5 hown hK hP 0 MO_0 rfl 9 (by decide) (hts _ q1519) (fun x h => h) rfl dX5_status_53 ?_
    exact f_reti hx hb hr hlocks dX5_status_56 (by unfold d5_status; rw [if_pos c_3_0])
  · refine f_swCase (x = 1) (fun c_3_1 => ?_) (fun c_3_1 => ?_)
    · refine lv_tableIn (tgt := 57) hx hb dX5_status_3 (by rw [c_3_1]; decide) (by rw [c_3_1]; decide) (by rw [c_3_1]; rfl) (by decide) ?_
      refine lv_aload_n hx hb dX5_status_57 rfl (lv_at hl 1 rfl) ?_
      refine f_get hx hb hts in_X5 hown hK hP 0 MO_0 rfl 14 (by decide) (hts _ q1524) (fun x h => h) rfl dX5_status_58 ?_
      exact f_reti hx hb hr hlocks dX5_status_61 (by unfold d5_status; rw [if_neg c_3_0, if_pos c_3_1])
    · refine f_swCase (x = 2) (fun c_3_2 => ?_) (fun c_3_2 => ?_)
      · refine lv_tableIn (tgt := 62) hx hb dX5_status_3 (by rw [c_3_2]; decide) (by rw [c_3_2]; decide) (by rw [c_3_2]; rfl) (by decide) ?_
        refine lv_aload_n hx hb dX5_status_62 rfl (lv_at hl 1 rfl) ?_
        refine f_get hx hb hts in_X5 hown hK hP 0 MO_0 rfl 18 (by decide) (hts _ q1528) (fun x h => h) rfl dX5_status_63 ?_
        exact f_reti hx hb hr hlocks dX5_status_66 (by unfold d5_status; rw [if_neg c_3_0, if_neg c_3_1, if_pos c_3_2])
      · refine f_swCase (x = 3) (fun c_3_3 => ?_) (fun c_3_3 => ?_)
        · refine lv_tableIn (tgt := 67) hx hb dX5_status_3 (by rw [c_3_3]; decide) (by rw [c_3_3]; decide) (by rw [c_3_3]; rfl) (by decide) ?_
          refine lv_aload_n hx hb dX5_status_67 rfl (lv_at hl 1 rfl) ?_
          refine f_get hx hb hts in_X5 hown hK hP 0 MO_0 rfl 19 (by decide) (hts _ q1529) (fun x h => h) rfl dX5_status_68 ?_
          exact f_reti hx hb hr hlocks dX5_status_71 (by unfold d5_status; rw [if_neg c_3_0, if_neg c_3_1, if_neg c_3_2, if_pos c_3_3])
        · refine f_swCase (x = 4) (fun c_3_4 => ?_) (fun c_3_4 => ?_)
          · refine lv_tableIn (tgt := 72) hx hb dX5_status_3 (by rw [c_3_4]; decide) (by rw [c_3_4]; decide) (by rw [c_3_4]; rfl) (by decide) ?_
            refine lv_aload_n hx hb dX5_status_72 rfl (lv_at hl 1 rfl) ?_
            refine f_get hx hb hts in_X5 hown hK hP 0 MO_0 rfl 20 (by decide) (hts _ q1530) (fun x h => h) rfl dX5_status_73 ?_
            exact f_reti hx hb hr hlocks dX5_status_76 (by unfold d5_status; rw [if_neg c_3_0, if_neg c_3_1, if_neg c_3_2, if_neg c_3_3, if_pos c_3_4])
          · refine f_swCase (x = 5) (fun c_3_5 => ?_) (fun c_3_5 => ?_)
            · refine lv_tableIn (tgt := 77) hx hb dX5_status_3 (by rw [c_3_5]; decide) (by rw [c_3_5]; decide) (by rw [c_3_5]; rfl) (by decide) ?_
              refine lv_iconst (v := 0) hx hb dX5_status_77 (by decide) ?_
              refine lv_istore_n (lv' := [(3, .int 0), (2, .int 0), (0, .ref (am 0)), (1, .int x)]) hx hb dX5_status_78 rfl hl (by decide) rfl (fun ls hl => ?_)
              have lp_79 : ∀ (n79 : Nat) (k3 : Nat) (x2 : Int32), (k3 ≤ S) → S - k3 < n79 → g5_status_79 P n79 k3 x2 = d5_status P G x S → ∀ (ls : Array Slot), lv_has ls 4 [(3, .int (nI k3)), (2, .int x2), (0, .ref (am 0)), (1, .int x)] → W p l e (headSpec (ws_ yX5_status cX5_status 4 (some .int)) ({ frames := 1, cells := 0, slots := 0, locals := 25 } : Room)).room s m ([.ref (am 0), .int x] : List Value).toArray below meth c s.heap [] 0 0 (MQ below (fQp (.int (d5_status P G x S))) ([.ref (am 0), .int x] : List Value).toArray s 0 0 (fun _ => False)) (F0 m 79 ls []) := by
                intro n79
                induction n79 with
                | zero => intro k3 x2 hk hM79; exact absurd hM79 (Nat.not_lt_zero _)
                | succ n79 ih79 =>
                  intro k3 x2 hk hM79 hV ls hl
                  unfold g5_status_79 at hV
                  refine lv_iload_n hx hb dX5_status_79 rfl (lv_at hl 0 rfl) ?_
                  refine lv_aload_n hx hb dX5_status_80 rfl (lv_at hl 2 rfl) ?_
                  refine f_get hx hb hts in_X5 hown hK hP 0 MO_0 rfl 9 (by decide) (hts _ q1519) (fun x h => h) rfl dX5_status_81 ?_
                  refine lv_icmp_ge (tgt := 102) hx hb dX5_status_84 (by decide) (fun c_84 => ?_) (fun c_84 => ?_)
                  · have e_84 := (nat_le (a := S) (b := k3) hst rfl (by omega) (by omega)).mp c_84
                    refine lv_iload_n hx hb dX5_status_102 rfl (lv_at hl 1 rfl) ?_
                    exact f_reti hx hb hr hlocks dX5_status_103 (by have z := hV; rw [if_pos c_84] at z; exact z)
                  · have e_84 := (not_congr (nat_le (a := S) (b := k3) hst rfl (by omega) (by omega))).mp c_84
                    refine lv_iload_n hx hb dX5_status_87 rfl (lv_at hl 1 rfl) ?_
                    refine lv_aload_n hx hb dX5_status_88 rfl (lv_at hl 2 rfl) ?_
                    refine f_get hx hb hts in_X5 hown hK hP 0 MO_0 rfl 10 (by decide) (hts _ q1520) (fun x h => h) rfl dX5_status_89 ?_
                    refine lv_iload_n hx hb dX5_status_92 rfl (lv_at hl 0 rfl) ?_
                    refine f_iald hx hb hK hP 9 0 MO_9 rfl k3 rfl (by omega) (by decide) dX5_status_93 ?_
                    refine lv_iadd hx hb dX5_status_94 ?_
                    refine lv_istore_n (lv' := [(2, .int (x2 + (P 0 k3))), (3, .int (nI k3)), (0, .ref (am 0)), (1, .int x)]) hx hb dX5_status_95 rfl hl (by decide) rfl (fun ls hl => ?_)
                    refine lv_iinc (v := nI (k3 + 1)) (lv' := [(3, .int (nI (k3 + 1))), (2, .int (x2 + (P 0 k3))), (0, .ref (am 0)), (1, .int x)]) hx hb dX5_status_96 hl (k := 1) rfl (nI_1 k3) (by decide) rfl (fun ls hl => ?_)
                    refine lv_goto (tgt := 79) hx hb dX5_status_99 (by decide) ?_
                    exact ih79 (k3 + 1) (x2 + (P 0 k3)) (by omega) (by omega) (by have z := hV; rw [if_neg c_84] at z; exact z) ls (lv_sub hl [0, 1, 2, 3] rfl)
              exact lp_79 (S + 1) 0 0 (by omega) (by omega) (by unfold d5_status; rw [if_neg c_3_0, if_neg c_3_1, if_neg c_3_2, if_neg c_3_3, if_neg c_3_4, if_pos c_3_5]) ls (lv_sub hl [0, 1, 2, 3] rfl)
            · refine f_swCase (x = 6) (fun c_3_6 => ?_) (fun c_3_6 => ?_)
              · refine lv_tableIn (tgt := 104) hx hb dX5_status_3 (by rw [c_3_6]; decide) (by rw [c_3_6]; decide) (by rw [c_3_6]; rfl) (by decide) ?_
                refine lv_aload_n hx hb dX5_status_104 rfl (lv_at hl 1 rfl) ?_
                refine f_get hx hb hts in_X5 hown hK hP 0 MO_0 rfl 7 (by decide) (hts _ q1517) (fun x h => h) rfl dX5_status_105 ?_
                exact f_reti hx hb hr hlocks dX5_status_108 (by unfold d5_status; rw [if_neg c_3_0, if_neg c_3_1, if_neg c_3_2, if_neg c_3_3, if_neg c_3_4, if_neg c_3_5, if_pos c_3_6])
              · refine f_swCase (x = 7) (fun c_3_7 => ?_) (fun c_3_7 => ?_)
                · refine lv_tableIn (tgt := 109) hx hb dX5_status_3 (by rw [c_3_7]; decide) (by rw [c_3_7]; decide) (by rw [c_3_7]; rfl) (by decide) ?_
                  refine lv_aload_n hx hb dX5_status_109 rfl (lv_at hl 1 rfl) ?_
                  refine f_get hx hb hts in_X5 hown hK hP 0 MO_0 rfl 21 (by decide) (hts _ q1531) (fun x h => h) rfl dX5_status_110 ?_
                  exact f_reti hx hb hr hlocks dX5_status_113 (by unfold d5_status; rw [if_neg c_3_0, if_neg c_3_1, if_neg c_3_2, if_neg c_3_3, if_neg c_3_4, if_neg c_3_5, if_neg c_3_6, if_pos c_3_7])
                · refine f_swCase (x = 8) (fun c_3_8 => ?_) (fun c_3_8 => ?_)
                  · refine lv_tableIn (tgt := 114) hx hb dX5_status_3 (by rw [c_3_8]; decide) (by rw [c_3_8]; decide) (by rw [c_3_8]; rfl) (by decide) ?_
                    refine lv_iconst (v := 0) hx hb dX5_status_114 (by decide) ?_
                    refine lv_istore_n (lv' := [(3, .int 0), (2, .int 0), (0, .ref (am 0)), (1, .int x)]) hx hb dX5_status_115 rfl hl (by decide) rfl (fun ls hl => ?_)
                    have lp_116 : ∀ (n116 : Nat) (k3 : Nat) (x2 : Int32), (k3 ≤ 8) → 8 - k3 < n116 → g5_status_116 P n116 k3 x2 = d5_status P G x S → ∀ (ls : Array Slot), lv_has ls 4 [(3, .int (nI k3)), (2, .int x2), (0, .ref (am 0)), (1, .int x)] → W p l e (headSpec (ws_ yX5_status cX5_status 4 (some .int)) ({ frames := 1, cells := 0, slots := 0, locals := 25 } : Room)).room s m ([.ref (am 0), .int x] : List Value).toArray below meth c s.heap [] 0 0 (MQ below (fQp (.int (d5_status P G x S))) ([.ref (am 0), .int x] : List Value).toArray s 0 0 (fun _ => False)) (F0 m 116 ls []) := by
                      intro n116
                      induction n116 with
                      | zero => intro k3 x2 hk hM116; exact absurd hM116 (Nat.not_lt_zero _)
                      | succ n116 ih116 =>
                        intro k3 x2 hk hM116 hV ls hl
                        unfold g5_status_116 at hV
                        refine lv_iload_n hx hb dX5_status_116 rfl (lv_at hl 0 rfl) ?_
                        refine lv_bipush (v := 8) hx hb dX5_status_117 (by decide) ?_
                        refine lv_icmp_ge (tgt := 145) hx hb dX5_status_119 (by decide) (fun c_119 => ?_) (fun c_119 => ?_)
                        · have e_119 := (nat_le (a := 8) (b := k3) rfl rfl (by omega) (by omega)).mp c_119
                          refine lv_iload_n hx hb dX5_status_145 rfl (lv_at hl 1 rfl) ?_
                          exact f_reti hx hb hr hlocks dX5_status_146 (by have z := hV; rw [if_pos c_119] at z; exact z)
                        · have e_119 := (not_congr (nat_le (a := 8) (b := k3) rfl rfl (by omega) (by omega))).mp c_119
                          refine lv_iload_n hx hb dX5_status_122 rfl (lv_at hl 1 rfl) ?_
                          refine lv_aload_n hx hb dX5_status_123 rfl (lv_at hl 2 rfl) ?_
                          refine f_get hx hb hts in_X5 hown hK hP 0 MO_0 rfl 0 (by decide) (hts _ q1510) (fun x h => h) rfl dX5_status_124 ?_
                          refine lv_iload_n hx hb dX5_status_127 rfl (lv_at hl 0 rfl) ?_
                          refine f_iald hx hb hK hP 1 0 MO_1 rfl k3 rfl (by omega) (by decide) dX5_status_128 ?_
                          refine lv_if_eq (tgt := 136) hx hb dX5_status_129 (by decide) (fun c_129 => ?_) (fun c_129 => ?_)
                          · refine lv_iconst (v := 0) hx hb dX5_status_136 (by decide) ?_
                            refine lv_iadd hx hb dX5_status_137 ?_
                            refine lv_istore_n (lv' := [(2, .int (x2 + 0)), (3, .int (nI k3)), (0, .ref (am 0)), (1, .int x)]) hx hb dX5_status_138 rfl hl (by decide) rfl (fun ls hl => ?_)
                            refine lv_iinc (v := nI (k3 + 1)) (lv' := [(3, .int (nI (k3 + 1))), (2, .int (x2 + 0)), (0, .ref (am 0)), (1, .int x)]) hx hb dX5_status_139 hl (k := 1) rfl (nI_1 k3) (by decide) rfl (fun ls hl => ?_)
                            refine lv_goto (tgt := 116) hx hb dX5_status_142 (by decide) ?_
                            exact ih116 (k3 + 1) (x2 + 0) (by omega) (by omega) (by have z := hV; rw [if_neg c_119, if_pos c_129] at z; exact z) ls (lv_sub hl [0, 1, 2, 3] rfl)
                          · refine lv_iconst (v := 1) hx hb dX5_status_132 (by decide) ?_
                            refine lv_goto (tgt := 137) hx hb dX5_status_133 (by decide) ?_
                            refine lv_iadd hx hb dX5_status_137 ?_
                            refine lv_istore_n (lv' := [(2, .int (x2 + 1)), (3, .int (nI k3)), (0, .ref (am 0)), (1, .int x)]) hx hb dX5_status_138 rfl hl (by decide) rfl (fun ls hl => ?_)
                            refine lv_iinc (v := nI (k3 + 1)) (lv' := [(3, .int (nI (k3 + 1))), (2, .int (x2 + 1)), (0, .ref (am 0)), (1, .int x)]) hx hb dX5_status_139 hl (k := 1) rfl (nI_1 k3) (by decide) rfl (fun ls hl => ?_)
                            refine lv_goto (tgt := 116) hx hb dX5_status_142 (by decide) ?_
                            exact ih116 (k3 + 1) (x2 + 1) (by omega) (by omega) (by have z := hV; rw [if_neg c_119, if_neg c_129] at z; exact z) ls (lv_sub hl [0, 1, 2, 3] rfl)
                    exact lp_116 9 0 0 (by omega) (by omega) (by unfold d5_status; rw [if_neg c_3_0, if_neg c_3_1, if_neg c_3_2, if_neg c_3_3, if_neg c_3_4, if_neg c_3_5, if_neg c_3_6, if_neg c_3_7, if_pos c_3_8]) ls (lv_sub hl [0, 1, 2, 3] rfl)
                  · refine lv_tableOut (tgt := 147) hx hb dX5_status_3 (f_swOut (lo := 0) (n := 9) (f_sw9 (lo := 0) c_3_0 c_3_1 c_3_2 c_3_3 c_3_4 c_3_5 c_3_6 c_3_7 c_3_8) rfl) (by decide) ?_
                    refine lv_iload_n hx hb dX5_status_147 rfl (lv_at hl 2 rfl) ?_
                    refine lv_i2l (v := x.toInt64) hx hb dX5_status_148 rfl ?_
                    refine lv_ldc2 (v := 12) hx hb hown (hts _ q1964) dX5_status_149 ?_
                    refine lv_ldc2 (v := 16) hx hb hown (hts _ q2027) dX5_status_152 ?_
                    refine f_pS hx hb hml hown hts (m5_in l D dA (MO dA am P T G L kt tr)  x.toInt64 12 16 ) (va_cwS 3 hts (lw_S q1624 q1625 q79 q1626) rfl rfl rfl (by decide +kernel) ⟨Nat.le_of_ble_eq_true rfl, Nat.le_of_ble_eq_true rfl⟩) hG hP f_id rfl hl.1 rfl (Nat.le_of_ble_eq_true rfl) dX5_status_155 ⟨Nat.zero_le _, Nat.zero_le _⟩ ?_
                    refine lv_if_eq (tgt := 173) hx hb dX5_status_158 (by decide) (fun c_158 => ?_) (fun c_158 => ?_)
                    · refine lv_iconst (v := -1) hx hb dX5_status_173 (by decide) ?_
                      exact f_reti hx hb hr hlocks dX5_status_174 (by unfold d5_status; rw [if_neg c_3_0, if_neg c_3_1, if_neg c_3_2, if_neg c_3_3, if_neg c_3_4, if_neg c_3_5, if_neg c_3_6, if_neg c_3_7, if_neg c_3_8, if_pos c_158])
                    · obtain ⟨jx, h_jx, rfl⟩ := in_natm c_158 (a := 12) (n := 16) (by decide) (by decide) (by decide)
                      refine lv_aload_n hx hb dX5_status_161 rfl (lv_at hl 1 rfl) ?_
                      refine f_get hx hb hts in_X5 hown hK hP 0 MO_0 rfl 8 (by decide) (hts _ q1518) (fun x h => h) rfl dX5_status_162 ?_
                      refine lv_iload_n hx hb dX5_status_165 rfl (lv_at hl 2 rfl) ?_
                      refine lv_bipush (v := 10) hx hb dX5_status_166 (by decide) ?_
                      refine lv_isub hx hb dX5_status_168 ?_
                      refine f_as (y := nI (jx - 10)) (pk_sub (a := jx) (b := 10) (by omega)) ?_
                      refine f_iald hx hb hK hP 8 0 MO_8 rfl (jx - 10) rfl (by omega) (by decide) dX5_status_169 ?_
                      refine lv_goto (tgt := 174) hx hb dX5_status_170 (by decide) ?_
                      exact f_reti hx hb hr hlocks dX5_status_174 (by unfold d5_status; (try simp only [cN_nI (show jx < 65536 by omega)]); rw [if_neg c_3_0, if_neg c_3_1, if_neg c_3_2, if_neg c_3_3, if_neg c_3_4, if_neg c_3_5, if_neg c_3_6, if_neg c_3_7, if_neg c_3_8, if_neg c_158])
def g5_when_127 (P : Nat → Nat → Int32) (L : Nat → Nat → Int64) (jx : Nat) (jy : Nat) (jz : Nat)  : Nat → Nat → Int32 → Int32 × (Nat → Nat → Int32)
  | 0, _, _ => (0, fun _ _ => 0)
  | n + 1, k6, x5 => if (nI jy) ≤ (nI k6) then (if x5 < (nI jz) then ((-1), (d5_noRow P (nI jx)).2) else (0, (d5_noRow P (nI jx)).2)) else (if (nI jz) ≤ x5 then (if x5 < (nI jz) then ((-1), (d5_noRow P (nI jx)).2) else (0, (d5_noRow P (nI jx)).2)) else (if (d5_healed ((d5_noRow P (nI jx)).2) x5 ((L jx k6).toInt32)) < (nI jz) then g5_when_127 P L jx jy jz n (k6 + 1) (d5_healed ((d5_noRow P (nI jx)).2) x5 ((L jx k6).toInt32)) else (nI (k6 + 1), (d5_noRow P (nI jx)).2)))
def g5_when_78 (P : Nat → Nat → Int32) (L : Nat → Nat → Int64) (jx : Nat) (jy : Nat) (jz : Nat)  : Nat → Nat → Int32 × (Nat → Nat → Int32)
  | 0, _ => (0, fun _ _ => 0)
  | n + 1, k5 => if (nI jy) ≤ (nI k5) then g5_when_127 P L jx jy jz (jy + 1) 0 (((d5_noRow P (nI jx)).2) 6 3) else (if (d5_in (L jx k5) 0 200) = 0 then (-(nI 2), up ((d5_noRow P (nI jx)).2) 13 2 (((d5_noRow P (nI jx)).2) 13 2 + 1)) else g5_when_78 P L jx jy jz n (k5 + 1))
def d5_when (P : Nat → Nat → Int32) (L : Nat → Nat → Int64) (x : Int32) (y : Int32) (z : Int32) : Int32 × (Nat → Nat → Int32) := if (d5_in x.toInt64 0 7) = 0 then (-(nI 2), up P 13 2 (P 13 2 + 1)) else (if (d5_in y.toInt64 0 40) = 0 then (-(nI 2), up P 13 2 (P 13 2 + 1)) else (if (d5_in z.toInt64 0 100) = 0 then (-(nI 2), up P 13 2 (P 13 2 + 1)) else (if ((d5_noRow P (x)).1) = 0 then (if (y) ≤ (((d5_noRow P (x)).2) 10 (cN x)) then g5_when_78 P L (cN x) (cN y) (cN z) ((cN y) + 1) 0 else (-(nI 2), up ((d5_noRow P (x)).2) 13 2 (((d5_noRow P (x)).2) 13 2 + 1))) else ((d5_noRow P (x)).1, (d5_noRow P (x)).2))))
set_option maxHeartbeats 4000000 in
set_option maxRecDepth 100000 in
theorem m5_when (l : Launch) (D : va_G) (dA : Nat → ClassId) (am : Nat → Nat) (P T : Nat → Nat → Int32) (G : Nat → Int32) (L : Nat → Nat → Int64) (kt tr : Option Nat) (sz : Nat)  (x : Int32) (y : Int32) (z : Int32) (hrow : ∀ i, i < 8 → ∃ n : Nat, n ≤ 40 ∧ P 10 i = nI n) : Met l yX5_when (ws_ yX5_when cX5_when 7 (some .int)) ({ frames := 2, cells := 0, slots := 0, locals := 49 } : Room) (fPm D dA (MO dA am P T G L kt tr) sz [.ref (am 0), .int x, .int y, .int z]) (fQm (S := Unit) D (MO dA am P T G L kt tr) sz (fun _ => some (.int ((d5_when P L x y z).1))) (fun _ => True) (fun _ => MO dA am ((d5_when P L x y z).2) T G L kt tr)) 0 0 (fA (MO dA am P T G L kt tr) sz) := by
  refine Met.ofW (cc := cX5_when) (maxL := 7) (ret := (some .int)) (by decide) rfl ?_
  intro p e s m args below meth c s₁ B hml hv
  obtain ⟨rfl, hsz, hP0, hG, hD0⟩ := hv
  have hK := hG.1
  have hx := B.exec
  have hb := B.bytes
  have hr := B.returns
  have hts := atoms_spec (ws := (ws_ yX5_when cX5_when 7 (some .int))) B.pre
  have hts : ∀ w ∈ lw_all, w.before _ s = true := fun w h => hts w (List.mem_cons_of_mem _ h)
  have hown : s.vm.findClass RX5 = some m.cls := findClass_of_methodNamed B.named
  have hlocks := B.notSynchronized
  subst hsz
  have hI := FI.start hP0 hD0
  have hl := lv_entry ([.ref (am 0), .int x, .int y, .int z]) (n := 7) (Nat.le_of_ble_eq_true rfl)
  rw [lg_entry_eq]
  generalize (lg_sl ([.ref (am 0), .int x, .int y, .int z]) ++ List.replicate (7 - (lg_sl ([.ref (am 0), .int x, .int y, .int z])).length) Slot.unset).toArray = ls at hl ⊢
  have hl : lv_has ls 7 [(0, .ref (am 0)), (1, .int x), (2, .int y), (3, .int z)] := hl
  refine lv_iload_n hx hb dX5_when_0 rfl (lv_at hl 1 rfl) ?_
  refine lv_i2l (v := x.toInt64) hx hb dX5_when_1 rfl ?_
  refine lv_lconst (v := 0) hx hb dX5_when_2 (by decide) ?_
  refine lv_ldc2 (v := 7) hx hb hown (hts _ q1623) dX5_when_3 ?_
  refine f_pS hx hb hml hown hts (m5_in l D dA (MO dA am P T G L kt tr)  x.toInt64 0 7 ) (va_cwS 3 hts (lw_S q1624 q1625 q79 q1626) rfl rfl rfl (by decide +kernel) ⟨Nat.le_of_ble_eq_true rfl, Nat.le_of_ble_eq_true rfl⟩) hG hI.1 f_id rfl hl.1 rfl (Nat.le_of_ble_eq_true rfl) dX5_when_6 ⟨Nat.zero_le _, Nat.zero_le _⟩ ?_
  refine lv_if_eq (tgt := 36) hx hb dX5_when_9 (by decide) (fun c_9 => ?_) (fun c_9 => ?_)
  · refine lv_aload_n hx hb dX5_when_36 rfl (lv_at hl 0 rfl) ?_
    refine lv_bipush (v := -2) hx hb dX5_when_37 (by decide) ?_
    refine f_mV0 hx hb hml hown hts (m5_refuse l D dA am P T G L kt tr _  2 (by omega)) (cwV 1 hts (lw_V q1629 q1631 qs32 q79 q1632) rfl rfl rfl (by decide +kernel) ⟨Nat.le_of_ble_eq_true rfl, Nat.le_of_ble_eq_true rfl⟩) hG hI MO_0 rfl rfl hl.1 rfl (Nat.le_of_ble_eq_true rfl) dX5_when_39 ⟨Nat.zero_le _, Nat.zero_le _⟩ (fun _ H locs _ hI => ?_)
    have hE : (-(nI 2), up P 13 2 (P 13 2 + 1)) = d5_when P L x y z := (by unfold d5_when; rw [if_pos c_9])
    exact f_mreti hx hb hr hlocks hI dX5_when_42 () (congrArg (fun z => some (Value.int z.1)) hE) trivial (congrArg (fun z => MO dA am z.2 T G L kt tr) hE)
  · obtain ⟨jx, h_jx, rfl⟩ := in_nat c_9 (n := 7) (by decide) (by decide)
    refine lv_iload_n hx hb dX5_when_12 rfl (lv_at hl 2 rfl) ?_
    refine lv_i2l (v := y.toInt64) hx hb dX5_when_13 rfl ?_
    refine lv_lconst (v := 0) hx hb dX5_when_14 (by decide) ?_
    refine lv_ldc2 (v := 40) hx hb hown (hts _ q1628) dX5_when_15 ?_
    refine f_pS hx hb hml hown hts (m5_in l D dA (MO dA am P T G L kt tr)  y.toInt64 0 40 ) (va_cwS 3 hts (lw_S q1624 q1625 q79 q1626) rfl rfl rfl (by decide +kernel) ⟨Nat.le_of_ble_eq_true rfl, Nat.le_of_ble_eq_true rfl⟩) hG hI.1 f_id rfl hl.1 rfl (Nat.le_of_ble_eq_true rfl) dX5_when_18 ⟨Nat.zero_le _, Nat.zero_le _⟩ ?_
    refine lv_if_eq (tgt := 36) hx hb dX5_when_21 (by decide) (fun c_21 => ?_) (fun c_21 => ?_)
    · refine lv_aload_n hx hb dX5_when_36 rfl (lv_at hl 0 rfl) ?_
      refine lv_bipush (v := -2) hx hb dX5_when_37 (by decide) ?_
      refine f_mV0 hx hb hml hown hts (m5_refuse l D dA am P T G L kt tr _  2 (by omega)) (cwV 1 hts (lw_V q1629 q1631 qs32 q79 q1632) rfl rfl rfl (by decide +kernel) ⟨Nat.le_of_ble_eq_true rfl, Nat.le_of_ble_eq_true rfl⟩) hG hI MO_0 rfl rfl hl.1 rfl (Nat.le_of_ble_eq_true rfl) dX5_when_39 ⟨Nat.zero_le _, Nat.zero_le _⟩ (fun _ H locs _ hI => ?_)
      have hE : (-(nI 2), up P 13 2 (P 13 2 + 1)) = d5_when P L (nI jx) y z := (by unfold d5_when; (try simp only [cN_nI (show jx < 65536 by omega)]); rw [if_neg c_9, if_pos c_21])
      exact f_mreti hx hb hr hlocks hI dX5_when_42 () (congrArg (fun z => some (Value.int z.1)) hE) trivial (congrArg (fun z => MO dA am z.2 T G L kt tr) hE)
    · obtain ⟨jy, h_jy, rfl⟩ := in_nat c_21 (n := 40) (by decide) (by decide)
      refine lv_iload_n hx hb dX5_when_24 rfl (lv_at hl 3 rfl) ?_
      refine lv_i2l (v := z.toInt64) hx hb dX5_when_25 rfl ?_
      refine lv_lconst (v := 0) hx hb dX5_when_26 (by decide) ?_
      refine lv_ldc2 (v := 100) hx hb hown (hts _ q1922) dX5_when_27 ?_
      refine f_pS hx hb hml hown hts (m5_in l D dA (MO dA am P T G L kt tr)  z.toInt64 0 100 ) (va_cwS 3 hts (lw_S q1624 q1625 q79 q1626) rfl rfl rfl (by decide +kernel) ⟨Nat.le_of_ble_eq_true rfl, Nat.le_of_ble_eq_true rfl⟩) hG hI.1 f_id rfl hl.1 rfl (Nat.le_of_ble_eq_true rfl) dX5_when_30 ⟨Nat.zero_le _, Nat.zero_le _⟩ ?_
      refine lv_if_ne (tgt := 43) hx hb dX5_when_33 (by decide) (fun c_33 => ?_) (fun c_33 => ?_)
      · obtain ⟨jz, h_jz, rfl⟩ := in_nat c_33 (n := 100) (by decide) (by decide)
        refine lv_aload_n hx hb dX5_when_43 rfl (lv_at hl 0 rfl) ?_
        refine lv_iload_n hx hb dX5_when_44 rfl (lv_at hl 1 rfl) ?_
        refine f_mV0 hx hb hml hown hts (m5_noRow l D dA am P T G L kt tr _  (nI jx) ) (cwV 1 hts (lw_V q1637 q1639 qs33 q79 q1640) rfl rfl rfl (by decide +kernel) ⟨Nat.le_of_ble_eq_true rfl, Nat.le_of_ble_eq_true rfl⟩) hG hI MO_0 rfl rfl hl.1 rfl (Nat.le_of_ble_eq_true rfl) dX5_when_45 ⟨Nat.zero_le _, Nat.zero_le _⟩ (fun _ H locs _ hI => ?_)
        refine lv_istore (lv' := [(4, .int ((d5_noRow P (nI jx)).1)), (0, .ref (am 0)), (1, .int (nI jx)), (2, .int (nI jy)), (3, .int (nI jz))]) hx hb dX5_when_48 hl (by decide) rfl (fun ls hl => ?_)
        refine lv_iload hx hb dX5_when_50 (lv_at hl 0 rfl) ?_
        refine lv_if_eq (tgt := 58) hx hb dX5_when_52 (by decide) (fun (c_52 : ((d5_noRow P (nI jx)).1) = 0) => ?_) (fun (c_52 : ¬ (((d5_noRow P (nI jx)).1) = 0)) => ?_)
        · obtain ⟨rn, hrn, hre⟩ := hrow jx (by omega)
          refine lv_aload_n hx hb dX5_when_58 rfl (lv_at hl 1 rfl) ?_
          refine f_get hx hb hts in_X5 hown hK hI.1 0 MO_0 rfl 2 (by decide) (hts _ q1512) (fun x h => h) rfl dX5_when_59 ?_
          refine lv_iload_n hx hb dX5_when_62 rfl (lv_at hl 2 rfl) ?_
          refine f_iald hx hb hK hI.1 3 0 MO_3 rfl jx rfl (by omega) (by decide) dX5_when_63 ?_
          refine lv_iload_n hx hb dX5_when_64 rfl (lv_at hl 3 rfl) ?_
          refine lv_icmp_ge (tgt := 75) hx hb dX5_when_65 (by decide) (fun (c_65 : (nI jy) ≤ (((d5_noRow P (nI jx)).2) 10 jx)) => ?_) (fun (c_65 : ¬ ((nI jy) ≤ (((d5_noRow P (nI jx)).2) 10 jx))) => ?_)
          · refine lv_iconst (v := 0) hx hb dX5_when_75 (by decide) ?_
            refine lv_istore (lv' := [(5, .int 0), (4, .int ((d5_noRow P (nI jx)).1)), (0, .ref (am 0)), (1, .int (nI jx)), (2, .int (nI jy)), (3, .int (nI jz))]) hx hb dX5_when_76 hl (by decide) rfl (fun ls hl => ?_)
            have lp_78 : ∀ (n78 : Nat) (k5 : Nat), (k5 ≤ jy) → jy - k5 < n78 → g5_when_78 P L jx jy jz n78 k5 = d5_when P L (nI jx) (nI jy) (nI jz) → ∀ (H : Heap) (locs : List Loc), FI D gcl (fA (MO dA am P T G L kt tr) s.heap.size) s.heap (MO dA am ((d5_noRow P (nI jx)).2) T G L kt tr) H locs → ∀ (ls : Array Slot), lv_has ls 7 [(5, .int (nI k5)), (4, .int ((d5_noRow P (nI jx)).1)), (0, .ref (am 0)), (1, .int (nI jx)), (2, .int (nI jy)), (3, .int (nI jz))] → W p l e (headSpec (ws_ yX5_when cX5_when 7 (some .int)) ({ frames := 2, cells := 0, slots := 0, locals := 49 } : Room)).room s m ([.ref (am 0), .int (nI jx), .int (nI jy), .int (nI jz)] : List Value).toArray below meth c H locs 0 0 (MQ below (fQm (S := Unit) D (MO dA am P T G L kt tr) s.heap.size (fun _ => some (.int ((d5_when P L (nI jx) (nI jy) (nI jz)).1))) (fun _ => True) (fun _ => MO dA am ((d5_when P L (nI jx) (nI jy) (nI jz)).2) T G L kt tr)) ([.ref (am 0), .int (nI jx), .int (nI jy), .int (nI jz)] : List Value).toArray s 0 0 (fA (MO dA am P T G L kt tr) s.heap.size)) (F0 m 78 ls []) := by
              intro n78
              induction n78 with
              | zero => intro k5 hk hM78; exact absurd hM78 (Nat.not_lt_zero _)
              | succ n78 ih78 =>
                intro k5 hk hM78 hV H locs hI ls hl
                unfold g5_when_78 at hV
                refine lv_iload hx hb dX5_when_78 (lv_at hl 0 rfl) ?_
                refine lv_iload_n hx hb dX5_when_80 rfl (lv_at hl 4 rfl) ?_
                refine lv_icmp_ge (tgt := 116) hx hb dX5_when_81 (by decide) (fun (c_81 : (nI jy) ≤ (nI k5)) => ?_) (fun (c_81 : ¬ ((nI jy) ≤ (nI k5))) => ?_)
                · have e_81 := (nat_le (a := jy) (b := k5) rfl rfl (by omega) (by omega)).mp c_81
                  refine lv_aload_n hx hb dX5_when_116 rfl (lv_at hl 2 rfl) ?_
                  refine f_get hx hb hts in_X5 hown hK hI.1 0 MO_0 rfl 17 (by decide) (hts _ q1527) (fun x h => h) rfl dX5_when_117 ?_
                  refine lv_iconst (v := 3) hx hb dX5_when_120 (by decide) ?_
                  refine f_iald hx hb hK hI.1 15 0 MO_15 rfl 3 rfl (by omega) (by decide) dX5_when_121 ?_
                  refine lv_istore (lv' := [(5, .int (((d5_noRow P (nI jx)).2) 6 3)), (4, .int ((d5_noRow P (nI jx)).1)), (0, .ref (am 0)), (1, .int (nI jx)), (2, .int (nI jy)), (3, .int (nI jz))]) hx hb dX5_when_122 hl (by decide) rfl (fun ls hl => ?_)
                  refine lv_iconst (v := 0) hx hb dX5_when_124 (by decide) ?_
                  refine lv_istore (lv' := [(6, .int 0), (5, .int (((d5_noRow P (nI jx)).2) 6 3)), (4, .int ((d5_noRow P (nI jx)).1)), (0, .ref (am 0)), (1, .int (nI jx)), (2, .int (nI jy)), (3, .int (nI jz))]) hx hb dX5_when_125 hl (by decide) rfl (fun ls hl => ?_)
                  have lp_127 : ∀ (n127 : Nat) (k6 : Nat) (x5 : Int32), (k6 ≤ jy) → jy - k6 < n127 → g5_when_127 P L jx jy jz n127 k6 x5 = d5_when P L (nI jx) (nI jy) (nI jz) → ∀ (H : Heap) (locs : List Loc), FI D gcl (fA (MO dA am P T G L kt tr) s.heap.size) s.heap (MO dA am ((d5_noRow P (nI jx)).2) T G L kt tr) H locs → ∀ (ls : Array Slot), lv_has ls 7 [(6, .int (nI k6)), (5, .int x5), (4, .int ((d5_noRow P (nI jx)).1)), (0, .ref (am 0)), (1, .int (nI jx)), (2, .int (nI jy)), (3, .int (nI jz))] → W p l e (headSpec (ws_ yX5_when cX5_when 7 (some .int)) ({ frames := 2, cells := 0, slots := 0, locals := 49 } : Room)).room s m ([.ref (am 0), .int (nI jx), .int (nI jy), .int (nI jz)] : List Value).toArray below meth c H locs 0 0 (MQ below (fQm (S := Unit) D (MO dA am P T G L kt tr) s.heap.size (fun _ => some (.int ((d5_when P L (nI jx) (nI jy) (nI jz)).1))) (fun _ => True) (fun _ => MO dA am ((d5_when P L (nI jx) (nI jy) (nI jz)).2) T G L kt tr)) ([.ref (am 0), .int (nI jx), .int (nI jy), .int (nI jz)] : List Value).toArray s 0 0 (fA (MO dA am P T G L kt tr) s.heap.size)) (F0 m 127 ls []) := by
                    intro n127
                    induction n127 with
                    | zero => intro k6 x5 hk hM127; exact absurd hM127 (Nat.not_lt_zero _)
                    | succ n127 ih127 =>
                      intro k6 x5 hk hM127 hV H locs hI ls hl
                      unfold g5_when_127 at hV
                      refine lv_iload hx hb dX5_when_127 (lv_at hl 0 rfl) ?_
                      refine lv_iload_n hx hb dX5_when_129 rfl (lv_at hl 5 rfl) ?_
                      refine lv_icmp_ge (tgt := 174) hx hb dX5_when_130 (by decide) (fun (c_130 : (nI jy) ≤ (nI k6)) => ?_) (fun (c_130 : ¬ ((nI jy) ≤ (nI k6))) => ?_)
                      · have e_130 := (nat_le (a := jy) (b := k6) rfl rfl (by omega) (by omega)).mp c_130
                        refine lv_iload hx hb dX5_when_174 (lv_at hl 1 rfl) ?_
                        refine lv_iload_n hx hb dX5_when_176 rfl (lv_at hl 6 rfl) ?_
                        refine lv_icmp_lt (tgt := 184) hx hb dX5_when_177 (by decide) (fun (c_177 : x5 < (nI jz)) => ?_) (fun (c_177 : ¬ (x5 < (nI jz))) => ?_)
                        · refine lv_iconst (v := -1) hx hb dX5_when_184 (by decide) ?_
                          have hE : ((-1), (d5_noRow P (nI jx)).2) = d5_when P L (nI jx) (nI jy) (nI jz) := (by have z := hV; rw [if_pos c_130, if_pos c_177] at z; exact z)
                          exact f_mreti hx hb hr hlocks hI dX5_when_185 () (congrArg (fun z => some (Value.int z.1)) hE) trivial (congrArg (fun z => MO dA am z.2 T G L kt tr) hE)
                        · refine lv_iconst (v := 0) hx hb dX5_when_180 (by decide) ?_
                          refine lv_goto (tgt := 185) hx hb dX5_when_181 (by decide) ?_
                          have hE : (0, (d5_noRow P (nI jx)).2) = d5_when P L (nI jx) (nI jy) (nI jz) := (by have z := hV; rw [if_pos c_130, if_neg c_177] at z; exact z)
                          exact f_mreti hx hb hr hlocks hI dX5_when_185 () (congrArg (fun z => some (Value.int z.1)) hE) trivial (congrArg (fun z => MO dA am z.2 T G L kt tr) hE)
                      · have e_130 := (not_congr (nat_le (a := jy) (b := k6) rfl rfl (by omega) (by omega))).mp c_130
                        refine lv_iload hx hb dX5_when_133 (lv_at hl 1 rfl) ?_
                        refine lv_iload_n hx hb dX5_when_135 rfl (lv_at hl 6 rfl) ?_
                        refine lv_icmp_ge (tgt := 174) hx hb dX5_when_136 (by decide) (fun (c_136 : (nI jz) ≤ x5) => ?_) (fun (c_136 : ¬ ((nI jz) ≤ x5)) => ?_)
                        · refine lv_iload hx hb dX5_when_174 (lv_at hl 1 rfl) ?_
                          refine lv_iload_n hx hb dX5_when_176 rfl (lv_at hl 6 rfl) ?_
                          refine lv_icmp_lt (tgt := 184) hx hb dX5_when_177 (by decide) (fun (c_177 : x5 < (nI jz)) => ?_) (fun (c_177 : ¬ (x5 < (nI jz))) => ?_)
                          · refine lv_iconst (v := -1) hx hb dX5_when_184 (by decide) ?_
                            have hE : ((-1), (d5_noRow P (nI jx)).2) = d5_when P L (nI jx) (nI jy) (nI jz) := (by have z := hV; rw [if_neg c_130, if_pos c_136, if_pos c_177] at z; exact z)
                            exact f_mreti hx hb hr hlocks hI dX5_when_185 () (congrArg (fun z => some (Value.int z.1)) hE) trivial (congrArg (fun z => MO dA am z.2 T G L kt tr) hE)
                          · refine lv_iconst (v := 0) hx hb dX5_when_180 (by decide) ?_
                            refine lv_goto (tgt := 185) hx hb dX5_when_181 (by decide) ?_
                            have hE : (0, (d5_noRow P (nI jx)).2) = d5_when P L (nI jx) (nI jy) (nI jz) := (by have z := hV; rw [if_neg c_130, if_pos c_136, if_neg c_177] at z; exact z)
                            exact f_mreti hx hb hr hlocks hI dX5_when_185 () (congrArg (fun z => some (Value.int z.1)) hE) trivial (congrArg (fun z => MO dA am z.2 T G L kt tr) hE)
                        · refine lv_aload_n hx hb dX5_when_139 rfl (lv_at hl 3 rfl) ?_
                          refine lv_iload hx hb dX5_when_140 (lv_at hl 1 rfl) ?_
                          refine lv_aload_n hx hb dX5_when_142 rfl (lv_at hl 3 rfl) ?_
                          refine f_get hx hb hts in_X5 hown hK hI.1 0 MO_0 rfl 3 (by decide) (hts _ q1513) (fun x h => h) rfl dX5_when_143 ?_
                          refine lv_iload_n hx hb dX5_when_146 rfl (lv_at hl 4 rfl) ?_
                          refine f_aldA hx hb hK hI.1 4 10 MO_4 rfl jx rfl (by omega) (by decide) rfl dX5_when_147 ?_
                          refine lv_iload hx hb dX5_when_148 (lv_at hl 0 rfl) ?_
                          refine f_lald hx hb hK hI.1 (20 + jx) 3 (MO_row (by omega)) rfl k6 rfl (by omega) (by decide) dX5_when_150 ?_
                          refine lv_l2i (v := (L jx k6).toInt32) hx hb dX5_when_151 rfl ?_
                          refine f_pV hx hb hml hown hts (m5_healed l D dA am ((d5_noRow P (nI jx)).2) T G L kt tr  x5 ((L jx k6).toInt32) ) (cwV 2 hts (lw_V q1970 q1972 qs68 q79 q1973) rfl rfl rfl (by decide +kernel) ⟨Nat.le_of_ble_eq_true rfl, Nat.le_of_ble_eq_true rfl⟩) hG hI.1 f_id MO_0 rfl rfl hl.1 rfl (Nat.le_of_ble_eq_true rfl) dX5_when_152 ⟨Nat.zero_le _, Nat.zero_le _⟩ ?_
                          refine lv_istore (lv' := [(5, .int (d5_healed ((d5_noRow P (nI jx)).2) x5 ((L jx k6).toInt32))), (6, .int (nI k6)), (4, .int ((d5_noRow P (nI jx)).1)), (0, .ref (am 0)), (1, .int (nI jx)), (2, .int (nI jy)), (3, .int (nI jz))]) hx hb dX5_when_155 hl (by decide) rfl (fun ls hl => ?_)
                          refine lv_iload hx hb dX5_when_157 (lv_at hl 0 rfl) ?_
                          refine lv_iload_n hx hb dX5_when_159 rfl (lv_at hl 6 rfl) ?_
                          refine lv_icmp_lt (tgt := 168) hx hb dX5_when_160 (by decide) (fun (c_160 : (d5_healed ((d5_noRow P (nI jx)).2) x5 ((L jx k6).toInt32)) < (nI jz)) => ?_) (fun (c_160 : ¬ ((d5_healed ((d5_noRow P (nI jx)).2) x5 ((L jx k6).toInt32)) < (nI jz))) => ?_)
                          · refine lv_iinc (v := nI (k6 + 1)) (lv' := [(6, .int (nI (k6 + 1))), (5, .int (d5_healed ((d5_noRow P (nI jx)).2) x5 ((L jx k6).toInt32))), (4, .int ((d5_noRow P (nI jx)).1)), (0, .ref (am 0)), (1, .int (nI jx)), (2, .int (nI jy)), (3, .int (nI jz))]) hx hb dX5_when_168 hl (k := 1) rfl (nI_1 k6) (by decide) rfl (fun ls hl => ?_)
                            refine lv_goto (tgt := 127) hx hb dX5_when_171 (by decide) ?_
                            exact ih127 (k6 + 1) (d5_healed ((d5_noRow P (nI jx)).2) x5 ((L jx k6).toInt32)) (by omega) (by omega) (by have z := hV; rw [if_neg c_130, if_neg c_136, if_pos c_160] at z; exact z) _ _ hI ls (lv_sub hl [0, 1, 2, 3, 4, 5, 6] rfl)
                          · refine lv_iload hx hb dX5_when_163 (lv_at hl 1 rfl) ?_
                            refine lv_iconst (v := 1) hx hb dX5_when_165 (by decide) ?_
                            refine lv_iadd hx hb dX5_when_166 ?_
                            refine f_as (y := nI (k6 + 1)) (nI_add k6 1) ?_
                            have hE : (nI (k6 + 1), (d5_noRow P (nI jx)).2) = d5_when P L (nI jx) (nI jy) (nI jz) := (by have z := hV; rw [if_neg c_130, if_neg c_136, if_neg c_160] at z; exact z)
                            exact f_mreti hx hb hr hlocks hI dX5_when_167 () (congrArg (fun z => some (Value.int z.1)) hE) trivial (congrArg (fun z => MO dA am z.2 T G L kt tr) hE)
                  exact lp_127 (jy + 1) 0 (((d5_noRow P (nI jx)).2) 6 3) (by omega) (by omega) (by have z := hV; rw [if_pos c_81] at z; exact z) _ _ hI ls (lv_sub hl [0, 1, 2, 3, 4, 5, 6] rfl)
                · have e_81 := (not_congr (nat_le (a := jy) (b := k5) rfl rfl (by omega) (by omega))).mp c_81
                  refine lv_aload_n hx hb dX5_when_84 rfl (lv_at hl 2 rfl) ?_
                  refine f_get hx hb hts in_X5 hown hK hI.1 0 MO_0 rfl 3 (by decide) (hts _ q1513) (fun x h => h) rfl dX5_when_85 ?_
                  refine lv_iload_n hx hb dX5_when_88 rfl (lv_at hl 3 rfl) ?_
                  refine f_aldA hx hb hK hI.1 4 10 MO_4 rfl jx rfl (by omega) (by decide) rfl dX5_when_89 ?_
                  refine lv_iload hx hb dX5_when_90 (lv_at hl 0 rfl) ?_
                  refine f_lald hx hb hK hI.1 (20 + jx) 3 (MO_row (by omega)) rfl k5 rfl (by omega) (by decide) dX5_when_92 ?_
                  refine lv_lconst (v := 0) hx hb dX5_when_93 (by decide) ?_
                  refine lv_ldc2 (v := 200) hx hb hown (hts _ q1850) dX5_when_94 ?_
                  refine f_pS hx hb hml hown hts (m5_in l D dA (MO dA am ((d5_noRow P (nI jx)).2) T G L kt tr)  (L jx k5) 0 200 ) (va_cwS 3 hts (lw_S q1624 q1625 q79 q1626) rfl rfl rfl (by decide +kernel) ⟨Nat.le_of_ble_eq_true rfl, Nat.le_of_ble_eq_true rfl⟩) hG hI.1 f_id rfl hl.1 rfl (Nat.le_of_ble_eq_true rfl) dX5_when_97 ⟨Nat.zero_le _, Nat.zero_le _⟩ ?_
                  refine lv_if_ne (tgt := 110) hx hb dX5_when_100 (by decide) (fun (c_100 : ¬ ((d5_in (L jx k5) 0 200) = 0)) => ?_) (fun (c_100 : (d5_in (L jx k5) 0 200) = 0) => ?_)
                  · refine lv_iinc (v := nI (k5 + 1)) (lv' := [(5, .int (nI (k5 + 1))), (4, .int ((d5_noRow P (nI jx)).1)), (0, .ref (am 0)), (1, .int (nI jx)), (2, .int (nI jy)), (3, .int (nI jz))]) hx hb dX5_when_110 hl (k := 0) rfl (nI_1 k5) (by decide) rfl (fun ls hl => ?_)
                    refine lv_goto (tgt := 78) hx hb dX5_when_113 (by decide) ?_
                    exact ih78 (k5 + 1) (by omega) (by omega) (by have z := hV; rw [if_neg c_81, if_neg c_100] at z; exact z) _ _ hI ls (lv_sub hl [0, 1, 2, 3, 4, 5] rfl)
                  · refine lv_aload_n hx hb dX5_when_103 rfl (lv_at hl 2 rfl) ?_
                    refine lv_bipush (v := -2) hx hb dX5_when_104 (by decide) ?_
                    refine f_mV0 hx hb hml hown hts (m5_refuse l D dA am ((d5_noRow P (nI jx)).2) T G L kt tr _  2 (by omega)) (cwV 1 hts (lw_V q1629 q1631 qs32 q79 q1632) rfl rfl rfl (by decide +kernel) ⟨Nat.le_of_ble_eq_true rfl, Nat.le_of_ble_eq_true rfl⟩) hG hI MO_0 rfl rfl hl.1 rfl (Nat.le_of_ble_eq_true rfl) dX5_when_106 ⟨Nat.zero_le _, Nat.zero_le _⟩ (fun _ H locs _ hI => ?_)
                    have hE : (-(nI 2), up ((d5_noRow P (nI jx)).2) 13 2 (((d5_noRow P (nI jx)).2) 13 2 + 1)) = d5_when P L (nI jx) (nI jy) (nI jz) := (by have z := hV; rw [if_neg c_81, if_pos c_100] at z; exact z)
                    exact f_mreti hx hb hr hlocks hI dX5_when_109 () (congrArg (fun z => some (Value.int z.1)) hE) trivial (congrArg (fun z => MO dA am z.2 T G L kt tr) hE)
            exact lp_78 (jy + 1) 0 (by omega) (by omega) (by unfold d5_when; (try simp only [cN_nI (show jx < 65536 by omega), cN_nI (show jy < 65536 by omega), cN_nI (show jz < 65536 by omega)]); rw [if_neg c_9, if_neg c_21, if_neg c_33, if_pos c_52, if_pos c_65]) _ _ hI ls (lv_sub hl [0, 1, 2, 3, 4, 5] rfl)
          · refine lv_aload_n hx hb dX5_when_68 rfl (lv_at hl 1 rfl) ?_
            refine lv_bipush (v := -2) hx hb dX5_when_69 (by decide) ?_
            refine f_mV0 hx hb hml hown hts (m5_refuse l D dA am ((d5_noRow P (nI jx)).2) T G L kt tr _  2 (by omega)) (cwV 1 hts (lw_V q1629 q1631 qs32 q79 q1632) rfl rfl rfl (by decide +kernel) ⟨Nat.le_of_ble_eq_true rfl, Nat.le_of_ble_eq_true rfl⟩) hG hI MO_0 rfl rfl hl.1 rfl (Nat.le_of_ble_eq_true rfl) dX5_when_71 ⟨Nat.zero_le _, Nat.zero_le _⟩ (fun _ H locs _ hI => ?_)
            have hE : (-(nI 2), up ((d5_noRow P (nI jx)).2) 13 2 (((d5_noRow P (nI jx)).2) 13 2 + 1)) = d5_when P L (nI jx) (nI jy) (nI jz) := (by unfold d5_when; (try simp only [cN_nI (show jx < 65536 by omega), cN_nI (show jy < 65536 by omega), cN_nI (show jz < 65536 by omega)]); rw [if_neg c_9, if_neg c_21, if_neg c_33, if_pos c_52, if_neg c_65])
            exact f_mreti hx hb hr hlocks hI dX5_when_74 () (congrArg (fun z => some (Value.int z.1)) hE) trivial (congrArg (fun z => MO dA am z.2 T G L kt tr) hE)
        · refine lv_iload hx hb dX5_when_55 (lv_at hl 0 rfl) ?_
          have hE : ((d5_noRow P (nI jx)).1, (d5_noRow P (nI jx)).2) = d5_when P L (nI jx) (nI jy) (nI jz) := (by unfold d5_when; (try simp only [cN_nI (show jx < 65536 by omega), cN_nI (show jy < 65536 by omega), cN_nI (show jz < 65536 by omega)]); rw [if_neg c_9, if_neg c_21, if_neg c_33, if_neg c_52])
          exact f_mreti hx hb hr hlocks hI dX5_when_57 () (congrArg (fun z => some (Value.int z.1)) hE) trivial (congrArg (fun z => MO dA am z.2 T G L kt tr) hE)
      · refine lv_aload_n hx hb dX5_when_36 rfl (lv_at hl 0 rfl) ?_
        refine lv_bipush (v := -2) hx hb dX5_when_37 (by decide) ?_
        refine f_mV0 hx hb hml hown hts (m5_refuse l D dA am P T G L kt tr _  2 (by omega)) (cwV 1 hts (lw_V q1629 q1631 qs32 q79 q1632) rfl rfl rfl (by decide +kernel) ⟨Nat.le_of_ble_eq_true rfl, Nat.le_of_ble_eq_true rfl⟩) hG hI MO_0 rfl rfl hl.1 rfl (Nat.le_of_ble_eq_true rfl) dX5_when_39 ⟨Nat.zero_le _, Nat.zero_le _⟩ (fun _ H locs _ hI => ?_)
        have hE : (-(nI 2), up P 13 2 (P 13 2 + 1)) = d5_when P L (nI jx) (nI jy) z := (by unfold d5_when; (try simp only [cN_nI (show jx < 65536 by omega), cN_nI (show jy < 65536 by omega)]); rw [if_neg c_9, if_neg c_21, if_pos c_33])
        exact f_mreti hx hb hr hlocks hI dX5_when_42 () (congrArg (fun z => some (Value.int z.1)) hE) trivial (congrArg (fun z => MO dA am z.2 T G L kt tr) hE)
