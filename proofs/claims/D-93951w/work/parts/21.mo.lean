/-! ALL CLASSES AND ARRAY TYPES; WHAT HOLDS ALL THROUGH A RUN; FORMS OF CONTRACTS; CALLS -/
abbrev gcl : List vw_C := [(RX0, TX0, 7), (RX1, TX1, 9), (RX2, TX2, 1), (RX3, TX3, 6), (RX4, TX4, 1), (RX5, TX5, 36), (RX6, TX6, 7), (RX7, TX7, 4), (RX8, TX8, 2), (RX9, TX9, 2), (RX10, TX10, 2), (RX11, TX11, 2), (RX12, TX12, 2), (RX13, TX13, 2), (RX14, TX14, 7), (RX15, TX15, 7), (RJ0, TJ0, 5), (RJ3, TJ3, 6), (RJ4, TJ4, 4), (RJ6, TJ6, 6), (RJ7, TJ7, 8), (RJ8, TJ8, 6), (RJ9, TJ9, 6), (RJ12, TJ12, 4)]
abbrev gty (dA : Nat → ClassId) : List (ClassId × FieldType) := [(dA 0, .int), (dA 1, .byte), (dA 2, .short), (dA 3, .long), (dA 4, .boolean), (dA 5, .char), (dA 6, .object "StairOnSticks$Step"), (dA 7, .object "StairOnSticks$Move"), (dA 8, .object "StairOnSticks$Sheet"), (dA 9, .array .int), (dA 10, .array .long)]
theorem ttyX0_0 : parseFieldDescriptor (TX0 0).2.2.1 = some (.object "StairOnSticks$Stair") := by decide +kernel
theorem ttyX0_1 : parseFieldDescriptor (TX0 1).2.2.1 = some (.object "StairOnSticks$Stair") := by decide +kernel
theorem ttyX0_2 : parseFieldDescriptor (TX0 2).2.2.1 = some (.object "StairOnSticks$Best") := by decide +kernel
theorem ttyX0_3 : parseFieldDescriptor (TX0 3).2.2.1 = some (.array (.object "StairOnSticks$Sheet")) := by decide +kernel
theorem ttyX0_4 : parseFieldDescriptor (TX0 4).2.2.1 = some (.array .int) := by decide +kernel
theorem ttyX0_5 : parseFieldDescriptor (TX0 5).2.2.1 = some (.int) := by decide +kernel
theorem ttyX0_6 : parseFieldDescriptor (TX0 6).2.2.1 = some (.array .int) := by decide +kernel
theorem ttyX1_0 : parseFieldDescriptor (TX1 0).2.2.1 = some (.array (.object "StairOnSticks$Step")) := by decide +kernel
theorem ttyX1_1 : parseFieldDescriptor (TX1 1).2.2.1 = some (.array (.object "StairOnSticks$Move")) := by decide +kernel
theorem ttyX1_2 : parseFieldDescriptor (TX1 2).2.2.1 = some (.object "StairOnSticks$Person") := by decide +kernel
theorem ttyX1_3 : parseFieldDescriptor (TX1 3).2.2.1 = some (.int) := by decide +kernel
theorem ttyX1_4 : parseFieldDescriptor (TX1 4).2.2.1 = some (.int) := by decide +kernel
theorem ttyX1_5 : parseFieldDescriptor (TX1 5).2.2.1 = some (.int) := by decide +kernel
theorem ttyX1_6 : parseFieldDescriptor (TX1 6).2.2.1 = some (.int) := by decide +kernel
theorem ttyX1_7 : parseFieldDescriptor (TX1 7).2.2.1 = some (.int) := by decide +kernel
theorem ttyX1_8 : parseFieldDescriptor (TX1 8).2.2.1 = some (.int) := by decide +kernel
theorem ttyX2_0 : parseFieldDescriptor (TX2 0).2.2.1 = some (.array .int) := by decide +kernel
theorem ttyX3_0 : parseFieldDescriptor (TX3 0).2.2.1 = some (.array (.array .int)) := by decide +kernel
theorem ttyX3_1 : parseFieldDescriptor (TX3 1).2.2.1 = some (.array (.array .int)) := by decide +kernel
theorem ttyX3_2 : parseFieldDescriptor (TX3 2).2.2.1 = some (.array (.array .int)) := by decide +kernel
theorem ttyX3_3 : parseFieldDescriptor (TX3 3).2.2.1 = some (.object "StairOnSticks$Stair") := by decide +kernel
theorem ttyX3_4 : parseFieldDescriptor (TX3 4).2.2.1 = some (.int) := by decide +kernel
theorem ttyX3_5 : parseFieldDescriptor (TX3 5).2.2.1 = some (.boolean) := by decide +kernel
theorem ttyX4_0 : parseFieldDescriptor (TX4 0).2.2.1 = some (.object "java/lang/Object") := by decide +kernel
theorem ttyX5_0 : parseFieldDescriptor (TX5 0).2.2.1 = some (.array .int) := by decide +kernel
theorem ttyX5_1 : parseFieldDescriptor (TX5 1).2.2.1 = some (.array .int) := by decide +kernel
theorem ttyX5_2 : parseFieldDescriptor (TX5 2).2.2.1 = some (.array .int) := by decide +kernel
theorem ttyX5_3 : parseFieldDescriptor (TX5 3).2.2.1 = some (.array (.array .long)) := by decide +kernel
theorem ttyX5_4 : parseFieldDescriptor (TX5 4).2.2.1 = some (.array .long) := by decide +kernel
theorem ttyX5_5 : parseFieldDescriptor (TX5 5).2.2.1 = some (.array .int) := by decide +kernel
theorem ttyX5_6 : parseFieldDescriptor (TX5 6).2.2.1 = some (.array .int) := by decide +kernel
theorem ttyX5_7 : parseFieldDescriptor (TX5 7).2.2.1 = some (.int) := by decide +kernel
theorem ttyX5_8 : parseFieldDescriptor (TX5 8).2.2.1 = some (.array .int) := by decide +kernel
theorem ttyX5_9 : parseFieldDescriptor (TX5 9).2.2.1 = some (.int) := by decide +kernel
theorem ttyX5_10 : parseFieldDescriptor (TX5 10).2.2.1 = some (.array .int) := by decide +kernel
theorem ttyX5_11 : parseFieldDescriptor (TX5 11).2.2.1 = some (.array .boolean) := by decide +kernel
theorem ttyX5_12 : parseFieldDescriptor (TX5 12).2.2.1 = some (.array .boolean) := by decide +kernel
theorem ttyX5_13 : parseFieldDescriptor (TX5 13).2.2.1 = some (.array .boolean) := by decide +kernel
theorem ttyX5_14 : parseFieldDescriptor (TX5 14).2.2.1 = some (.int) := by decide +kernel
theorem ttyX5_15 : parseFieldDescriptor (TX5 15).2.2.1 = some (.array .int) := by decide +kernel
theorem ttyX5_16 : parseFieldDescriptor (TX5 16).2.2.1 = some (.array .int) := by decide +kernel
theorem ttyX5_17 : parseFieldDescriptor (TX5 17).2.2.1 = some (.array .int) := by decide +kernel
theorem ttyX5_18 : parseFieldDescriptor (TX5 18).2.2.1 = some (.int) := by decide +kernel
theorem ttyX5_19 : parseFieldDescriptor (TX5 19).2.2.1 = some (.int) := by decide +kernel
theorem ttyX5_20 : parseFieldDescriptor (TX5 20).2.2.1 = some (.int) := by decide +kernel
theorem ttyX5_21 : parseFieldDescriptor (TX5 21).2.2.1 = some (.int) := by decide +kernel
theorem ttyX5_22 : parseFieldDescriptor (TX5 22).2.2.1 = some (.object "StairOnSticksModel") := by decide +kernel
theorem ttyX5_23 : parseFieldDescriptor (TX5 23).2.2.1 = some (.object "StairOnSticksModel") := by decide +kernel
theorem ttyX5_24 : parseFieldDescriptor (TX5 24).2.2.1 = some (.int) := by decide +kernel
theorem ttyX5_25 : parseFieldDescriptor (TX5 25).2.2.1 = some (.int) := by decide +kernel
theorem ttyX5_26 : parseFieldDescriptor (TX5 26).2.2.1 = some (.int) := by decide +kernel
theorem ttyX5_27 : parseFieldDescriptor (TX5 27).2.2.1 = some (.int) := by decide +kernel
theorem ttyX5_28 : parseFieldDescriptor (TX5 28).2.2.1 = some (.int) := by decide +kernel
theorem ttyX5_29 : parseFieldDescriptor (TX5 29).2.2.1 = some (.int) := by decide +kernel
theorem ttyX5_30 : parseFieldDescriptor (TX5 30).2.2.1 = some (.int) := by decide +kernel
theorem ttyX5_31 : parseFieldDescriptor (TX5 31).2.2.1 = some (.int) := by decide +kernel
theorem ttyX5_32 : parseFieldDescriptor (TX5 32).2.2.1 = some (.array (.array .int)) := by decide +kernel
theorem ttyX5_33 : parseFieldDescriptor (TX5 33).2.2.1 = some (.array (.array .int)) := by decide +kernel
theorem ttyX5_34 : parseFieldDescriptor (TX5 34).2.2.1 = some (.array (.array .int)) := by decide +kernel
theorem ttyX5_35 : parseFieldDescriptor (TX5 35).2.2.1 = some (.array .int) := by decide +kernel
theorem ttyX6_0 : parseFieldDescriptor (TX6 0).2.2.1 = some (.object "java/lang/Throwable") := by decide +kernel
theorem ttyX6_1 : parseFieldDescriptor (TX6 1).2.2.1 = some (.array (.object "java/lang/StackTraceElement")) := by decide +kernel
theorem ttyX6_2 : parseFieldDescriptor (TX6 2).2.2.1 = some (.object "java/util/List") := by decide +kernel
theorem ttyX6_3 : parseFieldDescriptor (TX6 3).2.2.1 = some (.object "java/lang/String") := by decide +kernel
theorem ttyX6_4 : parseFieldDescriptor (TX6 4).2.2.1 = some (.object "java/lang/Object") := by decide +kernel
theorem ttyX6_5 : parseFieldDescriptor (TX6 5).2.2.1 = some (.int) := by decide +kernel
theorem ttyX6_6 : parseFieldDescriptor (TX6 6).2.2.1 = some (.int) := by decide +kernel
theorem ttyX7_0 : parseFieldDescriptor (TX7 0).2.2.1 = some (.int) := by decide +kernel
theorem ttyX7_1 : parseFieldDescriptor (TX7 1).2.2.1 = some (.boolean) := by decide +kernel
theorem ttyX7_2 : parseFieldDescriptor (TX7 2).2.2.1 = some (.boolean) := by decide +kernel
theorem ttyX7_3 : parseFieldDescriptor (TX7 3).2.2.1 = some (.boolean) := by decide +kernel
theorem ttyX8_0 : parseFieldDescriptor (TX8 0).2.2.1 = some (.int) := by decide +kernel
theorem ttyX8_1 : parseFieldDescriptor (TX8 1).2.2.1 = some (.int) := by decide +kernel
theorem ttyX9_0 : parseFieldDescriptor (TX9 0).2.2.1 = some (.int) := by decide +kernel
theorem ttyX9_1 : parseFieldDescriptor (TX9 1).2.2.1 = some (.int) := by decide +kernel
theorem ttyX10_0 : parseFieldDescriptor (TX10 0).2.2.1 = some (.int) := by decide +kernel
theorem ttyX10_1 : parseFieldDescriptor (TX10 1).2.2.1 = some (.int) := by decide +kernel
theorem ttyX11_0 : parseFieldDescriptor (TX11 0).2.2.1 = some (.int) := by decide +kernel
theorem ttyX11_1 : parseFieldDescriptor (TX11 1).2.2.1 = some (.int) := by decide +kernel
theorem ttyX12_0 : parseFieldDescriptor (TX12 0).2.2.1 = some (.int) := by decide +kernel
theorem ttyX12_1 : parseFieldDescriptor (TX12 1).2.2.1 = some (.int) := by decide +kernel
theorem ttyX13_0 : parseFieldDescriptor (TX13 0).2.2.1 = some (.int) := by decide +kernel
theorem ttyX13_1 : parseFieldDescriptor (TX13 1).2.2.1 = some (.int) := by decide +kernel
theorem ttyX14_0 : parseFieldDescriptor (TX14 0).2.2.1 = some (.array .int) := by decide +kernel
theorem ttyX14_1 : parseFieldDescriptor (TX14 1).2.2.1 = some (.int) := by decide +kernel
theorem ttyX14_2 : parseFieldDescriptor (TX14 2).2.2.1 = some (.object "StairOnSticks$Stair") := by decide +kernel
theorem ttyX14_3 : parseFieldDescriptor (TX14 3).2.2.1 = some (.int) := by decide +kernel
theorem ttyX14_4 : parseFieldDescriptor (TX14 4).2.2.1 = some (.int) := by decide +kernel
theorem ttyX14_5 : parseFieldDescriptor (TX14 5).2.2.1 = some (.object "java/lang/String") := by decide +kernel
theorem ttyX14_6 : parseFieldDescriptor (TX14 6).2.2.1 = some (.int) := by decide +kernel
theorem ttyX15_0 : parseFieldDescriptor (TX15 0).2.2.1 = some (.object "java/lang/Throwable") := by decide +kernel
theorem ttyX15_1 : parseFieldDescriptor (TX15 1).2.2.1 = some (.array (.object "java/lang/StackTraceElement")) := by decide +kernel
theorem ttyX15_2 : parseFieldDescriptor (TX15 2).2.2.1 = some (.object "java/util/List") := by decide +kernel
theorem ttyX15_3 : parseFieldDescriptor (TX15 3).2.2.1 = some (.object "java/lang/String") := by decide +kernel
theorem ttyX15_4 : parseFieldDescriptor (TX15 4).2.2.1 = some (.object "java/lang/Object") := by decide +kernel
theorem ttyX15_5 : parseFieldDescriptor (TX15 5).2.2.1 = some (.int) := by decide +kernel
theorem ttyX15_6 : parseFieldDescriptor (TX15 6).2.2.1 = some (.int) := by decide +kernel
theorem ttyJ0_0 : parseFieldDescriptor (TJ0 0).2.2.1 = some (.object "java/lang/Throwable") := by decide +kernel
theorem ttyJ0_1 : parseFieldDescriptor (TJ0 1).2.2.1 = some (.array (.object "java/lang/StackTraceElement")) := by decide +kernel
theorem ttyJ0_2 : parseFieldDescriptor (TJ0 2).2.2.1 = some (.object "java/util/List") := by decide +kernel
theorem ttyJ0_3 : parseFieldDescriptor (TJ0 3).2.2.1 = some (.object "java/lang/String") := by decide +kernel
theorem ttyJ0_4 : parseFieldDescriptor (TJ0 4).2.2.1 = some (.object "java/lang/Object") := by decide +kernel
theorem ttyJ3_0 : parseFieldDescriptor (TJ3 0).2.2.1 = some (.object "java/lang/Object") := by decide +kernel
theorem ttyJ3_1 : parseFieldDescriptor (TJ3 1).2.2.1 = some (.object "java/lang/String") := by decide +kernel
theorem ttyJ3_2 : parseFieldDescriptor (TJ3 2).2.2.1 = some (.object "java/lang/Throwable") := by decide +kernel
theorem ttyJ3_3 : parseFieldDescriptor (TJ3 3).2.2.1 = some (.array (.object "java/lang/StackTraceElement")) := by decide +kernel
theorem ttyJ3_4 : parseFieldDescriptor (TJ3 4).2.2.1 = some (.int) := by decide +kernel
theorem ttyJ3_5 : parseFieldDescriptor (TJ3 5).2.2.1 = some (.object "java/util/List") := by decide +kernel
theorem ttyJ4_0 : parseFieldDescriptor (TJ4 0).2.2.1 = some (.array .byte) := by decide +kernel
theorem ttyJ4_1 : parseFieldDescriptor (TJ4 1).2.2.1 = some (.byte) := by decide +kernel
theorem ttyJ4_2 : parseFieldDescriptor (TJ4 2).2.2.1 = some (.int) := by decide +kernel
theorem ttyJ4_3 : parseFieldDescriptor (TJ4 3).2.2.1 = some (.boolean) := by decide +kernel
theorem ttyJ6_0 : parseFieldDescriptor (TJ6 0).2.2.1 = some (.object "java/lang/Object") := by decide +kernel
theorem ttyJ6_1 : parseFieldDescriptor (TJ6 1).2.2.1 = some (.object "java/lang/String") := by decide +kernel
theorem ttyJ6_2 : parseFieldDescriptor (TJ6 2).2.2.1 = some (.object "java/lang/Throwable") := by decide +kernel
theorem ttyJ6_3 : parseFieldDescriptor (TJ6 3).2.2.1 = some (.array (.object "java/lang/StackTraceElement")) := by decide +kernel
theorem ttyJ6_4 : parseFieldDescriptor (TJ6 4).2.2.1 = some (.int) := by decide +kernel
theorem ttyJ6_5 : parseFieldDescriptor (TJ6 5).2.2.1 = some (.object "java/util/List") := by decide +kernel
theorem ttyJ7_0 : parseFieldDescriptor (TJ7 0).2.2.1 = some (.object "java/lang/Object") := by decide +kernel
theorem ttyJ7_1 : parseFieldDescriptor (TJ7 1).2.2.1 = some (.object "java/lang/String") := by decide +kernel
theorem ttyJ7_2 : parseFieldDescriptor (TJ7 2).2.2.1 = some (.object "java/lang/Throwable") := by decide +kernel
theorem ttyJ7_3 : parseFieldDescriptor (TJ7 3).2.2.1 = some (.array (.object "java/lang/StackTraceElement")) := by decide +kernel
theorem ttyJ7_4 : parseFieldDescriptor (TJ7 4).2.2.1 = some (.int) := by decide +kernel
theorem ttyJ7_5 : parseFieldDescriptor (TJ7 5).2.2.1 = some (.object "java/util/List") := by decide +kernel
theorem ttyJ7_6 : parseFieldDescriptor (TJ7 6).2.2.1 = some (.int) := by decide +kernel
theorem ttyJ7_7 : parseFieldDescriptor (TJ7 7).2.2.1 = some (.object "java/lang/String") := by decide +kernel
theorem ttyJ8_0 : parseFieldDescriptor (TJ8 0).2.2.1 = some (.object "java/lang/Object") := by decide +kernel
theorem ttyJ8_1 : parseFieldDescriptor (TJ8 1).2.2.1 = some (.object "java/lang/String") := by decide +kernel
theorem ttyJ8_2 : parseFieldDescriptor (TJ8 2).2.2.1 = some (.object "java/lang/Throwable") := by decide +kernel
theorem ttyJ8_3 : parseFieldDescriptor (TJ8 3).2.2.1 = some (.array (.object "java/lang/StackTraceElement")) := by decide +kernel
theorem ttyJ8_4 : parseFieldDescriptor (TJ8 4).2.2.1 = some (.int) := by decide +kernel
theorem ttyJ8_5 : parseFieldDescriptor (TJ8 5).2.2.1 = some (.object "java/util/List") := by decide +kernel
theorem ttyJ9_0 : parseFieldDescriptor (TJ9 0).2.2.1 = some (.object "java/lang/Object") := by decide +kernel
theorem ttyJ9_1 : parseFieldDescriptor (TJ9 1).2.2.1 = some (.object "java/lang/String") := by decide +kernel
theorem ttyJ9_2 : parseFieldDescriptor (TJ9 2).2.2.1 = some (.object "java/lang/Throwable") := by decide +kernel
theorem ttyJ9_3 : parseFieldDescriptor (TJ9 3).2.2.1 = some (.array (.object "java/lang/StackTraceElement")) := by decide +kernel
theorem ttyJ9_4 : parseFieldDescriptor (TJ9 4).2.2.1 = some (.int) := by decide +kernel
theorem ttyJ9_5 : parseFieldDescriptor (TJ9 5).2.2.1 = some (.object "java/util/List") := by decide +kernel
theorem ttyJ12_0 : parseFieldDescriptor (TJ12 0).2.2.1 = some (.array .byte) := by decide +kernel
theorem ttyJ12_1 : parseFieldDescriptor (TJ12 1).2.2.1 = some (.byte) := by decide +kernel
theorem ttyJ12_2 : parseFieldDescriptor (TJ12 2).2.2.1 = some (.boolean) := by decide +kernel
theorem ttyJ12_3 : parseFieldDescriptor (TJ12 3).2.2.1 = some (.int) := by decide +kernel
/-- words that hold at the start and stay, but don't ride in the lists -/
def gk : Cond → Bool
  | .methodLinkNest _ _ _ _ => true
  | .castable _ _ => true
  | .declares _ => true
  | .publicMethod _ => true
  | .unhidden _ _ _ => true
  | .arrayOver _ => true
  | _ => false
theorem gAO_specA {U : State} {t : FieldType} (h : (Cond.arrayOver (.array t)).before #[] U = true) :
    ∃ comp c k, U.vm.findClass (FieldType.array t).toString = some comp ∧ (U.vm.classes.findIdx? fun x => match x.kind with | .array component _ => component == comp | _ => false) = some c ∧ U.vm.classes[c]? = some k ∧ k.kind = .array comp (.array t) ∧ U.vm.findClass ("[" ++ (FieldType.array t).toString) = some c := by
  unfold Cond.before at h
  simp only [Cond.holds, Cond.value, beq_iff_eq] at h
  cases hc : U.vm.findClass (FieldType.array t).toString with
  | none => simp [hc] at h
  | some comp =>
    simp only [hc, Option.bind_some, Option.bind_eq_some_iff, Option.map_eq_some_iff] at h
    obtain ⟨c, hi, k, hk, hb⟩ := h
    obtain ⟨hlt, hp, -⟩ := Array.findIdx?_eq_some_iff_getElem.mp hi
    have hkk : U.vm.classes[c] = k := (Array.getElem?_eq_some_iff.mp hk).2
    rw [hkk] at hp
    cases hkind : k.kind with
    | array component ty =>
      rw [hkind] at hb hp
      simp at hb hp
      exact ⟨comp, c, k, rfl, hi, hk, by rw [hkind, hp, hb.1], hb.2⟩
    | _ => rw [hkind] at hb; simp at hb
theorem gAO_moved {t : FieldType} {u U : State} (hvm : u.vm.Alike U.vm) (h : (Cond.arrayOver t).before #[] u = true) : (Cond.arrayOver t).before #[] U = true := by
  cases t with
  | object C => exact va_AO.moved hvm h
  | array t =>
    obtain ⟨comp, c, k, h1, h2, h3, h4, h5⟩ := gAO_specA h
    obtain ⟨k', hk', he⟩ := hvm.2.2 _ _ h3
    have hi : (U.vm.classes.findIdx? fun (x : Class) => match x.kind with | .array component _ => component == comp | _ => false) = some c := by
      have e1 := va_idx_bare U.vm comp
      have e2 := va_idx_bare u.vm comp
      first | rw [hvm.bare_eq] at e1 | rw [← hvm.bare_eq] at e1
      exact e1.symm.trans (e2.trans h2)
    have hkind : k'.kind = .array comp (.array t) := by rw [he]; exact h4
    have f1 : U.vm.findClass (FieldType.array t).toString = some comp := by rw [hvm.findClass]; exact h1
    have f2 : U.vm.findClass ("[" ++ (FieldType.array t).toString) = some c := by rw [hvm.findClass]; exact h5
    unfold Cond.before Cond.holds
    simp only [Cond.value]
    rw [f1, Option.bind_some]
    refine (congrArg (fun o : Option Nat => (o.bind (fun c => (U.vm.classes[c]?).map fun (k : Class) => match k.kind with | .array _ ty => decide (ty = FieldType.array t) && decide (U.vm.findClass ("[" ++ (FieldType.array t).toString) = some c) | _ => false) == some true)) hi).trans ?_
    simp [hk', hkind, f2]
  | _ =>
    unfold Cond.before Cond.holds at h
    simp [Cond.value] at h
theorem gk_moved {w : Cond} (hw : gk w = true) {u U : State} (hW : u.WarmedH U.vm) (h : va_Nw w u) : va_Nw w U := by
  cases w with
  | methodLinkNest a i x b => exact va_Nw.warmM hW h
  | castable a b => exact va_Nw.warmC hW h
  | declares x => exact va_Nw.warmD hW h
  | publicMethod x => exact va_tabs rfl (rfl : (u.setVm U.vm).vm = U.vm) (by rw [Cond.publicMethod_setVm hW.alike]; exact h)
  | unhidden a b d => exact va_tabs rfl (rfl : (u.setVm U.vm).vm = U.vm) (by rw [Cond.unhidden_setVm hW.alike]; exact h)
  | arrayOver t => exact gAO_moved hW.alike h
  | _ => simp [gk] at hw
abbrev gncl : List (String × String) := [("StairOnSticks$Cane", "StairOnSticks$Hopped"), ("StairOnSticks$Cane", "StairOnSticks$Railed"), ("StairOnSticks$Cane", "StairOnSticks$Seated"), ("StairOnSticks$Cane", "StairOnSticks$Swung"), ("StairOnSticks$Cane", "[B"), ("StairOnSticks$Cane", "[I"), ("StairOnSticks$Cane", "[J"), ("StairOnSticks$Cane", "[S"), ("StairOnSticks$Cane", "[Z"), ("StairOnSticks$Hopped", "StairOnSticks$Railed"), ("StairOnSticks$Hopped", "StairOnSticks$Seated"), ("StairOnSticks$Hopped", "[B"), ("StairOnSticks$Hopped", "[I"), ("StairOnSticks$Hopped", "[J"), ("StairOnSticks$Hopped", "[S"), ("StairOnSticks$Hopped", "[Z"), ("StairOnSticks$Move", "StairOnSticks$Cane"), ("StairOnSticks$Move", "StairOnSticks$Hopped"), ("StairOnSticks$Move", "StairOnSticks$Railed"), ("StairOnSticks$Move", "StairOnSticks$Seated"), ("StairOnSticks$Move", "StairOnSticks$Swung"), ("StairOnSticks$Move", "[B"), ("StairOnSticks$Move", "[I"), ("StairOnSticks$Move", "[J"), ("StairOnSticks$Move", "[S"), ("StairOnSticks$Move", "[Z"), ("StairOnSticks$Railed", "StairOnSticks$Hopped"), ("StairOnSticks$Railed", "StairOnSticks$Seated"), ("StairOnSticks$Railed", "StairOnSticks$Swung"), ("StairOnSticks$Railed", "[B"), ("StairOnSticks$Railed", "[I"), ("StairOnSticks$Railed", "[J"), ("StairOnSticks$Railed", "[S"), ("StairOnSticks$Railed", "[Z"), ("StairOnSticks$Seated", "StairOnSticks$Cane"), ("StairOnSticks$Seated", "StairOnSticks$Hopped"), ("StairOnSticks$Seated", "StairOnSticks$Railed"), ("StairOnSticks$Seated", "StairOnSticks$Swung"), ("StairOnSticks$Seated", "[B"), ("StairOnSticks$Seated", "[I"), ("StairOnSticks$Seated", "[J"), ("StairOnSticks$Seated", "[S"), ("StairOnSticks$Seated", "[Z"), ("StairOnSticks$Swung", "StairOnSticks$Hopped"), ("StairOnSticks$Swung", "StairOnSticks$Railed"), ("StairOnSticks$Swung", "StairOnSticks$Seated"), ("StairOnSticks$Swung", "[B"), ("StairOnSticks$Swung", "[I"), ("StairOnSticks$Swung", "[J"), ("StairOnSticks$Swung", "[S"), ("StairOnSticks$Swung", "[Z"), ("[B", "StairOnSticks$Cane"), ("[B", "StairOnSticks$Hopped"), ("[B", "StairOnSticks$Move"), ("[B", "StairOnSticks$Railed"), ("[B", "StairOnSticks$Seated"), ("[B", "StairOnSticks$Swung"), ("[B", "[I"), ("[B", "[J"), ("[B", "[S"), ("[B", "[Z"), ("[I", "StairOnSticks$Cane"), ("[I", "StairOnSticks$Hopped"), ("[I", "StairOnSticks$Move"), ("[I", "StairOnSticks$Railed"), ("[I", "StairOnSticks$Seated"), ("[I", "StairOnSticks$Swung"), ("[I", "[B"), ("[I", "[J"), ("[I", "[S"), ("[I", "[Z"), ("[J", "StairOnSticks$Cane"), ("[J", "StairOnSticks$Hopped"), ("[J", "StairOnSticks$Move"), ("[J", "StairOnSticks$Railed"), ("[J", "StairOnSticks$Seated"), ("[J", "StairOnSticks$Swung"), ("[J", "[B"), ("[J", "[I"), ("[J", "[S"), ("[J", "[Z"), ("[S", "StairOnSticks$Cane"), ("[S", "StairOnSticks$Hopped"), ("[S", "StairOnSticks$Move"), ("[S", "StairOnSticks$Railed"), ("[S", "StairOnSticks$Seated"), ("[S", "StairOnSticks$Swung"), ("[S", "[B"), ("[S", "[I"), ("[S", "[J"), ("[S", "[Z"), ("[Z", "StairOnSticks$Cane"), ("[Z", "StairOnSticks$Hopped"), ("[Z", "StairOnSticks$Move"), ("[Z", "StairOnSticks$Railed"), ("[Z", "StairOnSticks$Seated"), ("[Z", "StairOnSticks$Swung"), ("[Z", "[B"), ("[Z", "[I"), ("[Z", "[J"), ("[Z", "[S")]
/-- what holds all through a run: the classes, the array types, the words of gk, classes that aren't castable -/
def gC (D : va_G) (dA : Nat → ClassId) (U : State) : Prop := va_K D gcl (gty dA) U ∧ (∀ w : Cond, w ∈ lw_tbl → gk w = true → va_Nw w U) ∧ (∀ q ∈ gncl, va_Nc q.1 q.2 U)
theorem gC.moved {D : va_G} {dA : Nat → ClassId} {u U : State} (hW : u.WarmedH U.vm) (h : gC D dA u) : gC D dA U := ⟨va_K.moved hW.alike h.1, fun w hw hk => gk_moved hk hW (h.2.1 w hw hk), fun q hq => (h.2.2 q hq).moved hW.alike⟩
theorem gC.same {D : va_G} {dA : Nat → ClassId} {u U : State} (hv : u.vm = U.vm) (h : gC D dA u) : gC D dA U := by
  have ha : u.vm.Alike U.vm := by rw [hv]; exact Vm.Alike.refl U.vm
  refine ⟨va_K.moved ha h.1, fun w hw hk => ?_, fun q hq => (h.2.2 q hq).moved ha⟩
  have h1 := h.2.1 w hw hk
  cases w with
  | arrayOver t => exact gAO_moved ha h1
  | methodLinkNest a i x b => exact va_Nw.same rfl hv h1
  | castable a b => exact va_Nw.same rfl hv h1
  | declares x => exact va_Nw.same rfl hv h1
  | publicMethod x => exact va_Nw.same rfl hv h1
  | unhidden a b d => exact va_Nw.same rfl hv h1
  | _ => simp [gk] at hk
/-- a method that only reads: from a heap that holds w, it hands back v and the heap as it was -/
def fPc (D : va_G) (dA : Nat → ClassId) (w : fw) (av : List Value) : Array Value → State → Prop := va_Pc av (fun U => fP D gcl w U.heap ∧ gC D dA U)
def fQp (v : Value) : Array Value → State → Outcome → State → Prop := fun _ st oc t => oc = .returned (some v) ∧ t.heap = st.heap
/-- a method that writes: .. it ends in a heap that holds w1 (u: what there is of free choice, addresses and the like) -/
def fPm (D : va_G) (dA : Nat → ClassId) (w : fw) (sz : Nat) (av : List Value) : Array Value → State → Prop := va_Pc av (fun U => U.heap.size = sz ∧ fP D gcl w U.heap ∧ gC D dA U ∧ fD (fun _ => True) w)
def fQm {S : Type} (D : va_G) (w : fw) (sz : Nat) (v : S → Option Value) (post : S → Prop) (w1 : S → fw) : Array Value → State → Outcome → State → Prop := fun _ st oc t => (∃ u : S, oc = .returned (v u) ∧ post u ∧ fP D gcl (w1 u) t.heap ∧ fD (fA w sz) (w1 u)) ∧ va_F (fA w sz) st t
theorem fPc_blind {D : va_G} {dA : Nat → ClassId} {w : fw} {av : List Value} : FrameBlind (fPc D dA w av) := fun a U g mk q => ⟨q.1, q.2.1, q.2.2.same (u := U) (U := U.calling g mk a) rfl⟩
theorem fPm_blind {D : va_G} {dA : Nat → ClassId} {w : fw} {sz : Nat} {av : List Value} : FrameBlind (fPm D dA w sz av) := fun a U g mk q => ⟨q.1, q.2.1, q.2.2.1, q.2.2.2.1.same (u := U) (U := U.calling g mk a) rfl, q.2.2.2.2⟩
section FWC
variable {p : Program} {l : Launch} {e : Env} {R : Room} {s : State} {m : MethodId} {args : Array Value} {below : List Frame} {meth : Method} {c : Code} {H : Heap} {locs : List Loc} {cells slots : Nat} {Q : State → Prop}
variable {cc : ByteArray} {pc : Nat} {ls : Array Slot} {rest st0 : List Value} {D : va_G} {dA : Nat → ClassId} {A : Nat → Prop} {w wc : fw} {H0 : Heap}
variable {y : MethodName} {bytes : ByteArray} {maxL nL mc ms n index sz : Nat} {ret : Option FieldType} {ws : List Cond} {rm : Room} {Ts : List Cond} {own C : String} {b : Addr} {As : List Value} {v : Value}
theorem f_as {x y : Int32} (h : x = y) (k : W p l e R s m args below meth c H locs cells slots Q (F0 m pc ls (.int y :: rest))) : W p l e R s m args below meth c H locs cells slots Q (F0 m pc ls (.int x :: rest)) := h ▸ k
theorem f_asl {x y : Int64} (h : x = y) (k : W p l e R s m args below meth c H locs cells slots Q (F0 m pc ls (.long y :: rest))) : W p l e R s m args below meth c H locs cells slots Q (F0 m pc ls (.long x :: rest)) := h ▸ k
theorem f_case (q : Prop) [Decidable q] {g : JFrame} (k1 : q → W p l e R s m args below meth c H locs cells slots Q g) (k2 : ¬ q → W p l e R s m args below meth c H locs cells slots Q g) : W p l e R s m args below meth c H locs cells slots Q g := if h : q then k1 h else k2 h
/-- paths that come together: what the rest asks is proved once -/
theorem f_join {S : Type} (J : S → Prop) (k : (∀ u : S, J u → W p l e R s m args below meth c H locs cells slots Q (F0 m pc ls rest)) → W p l e R s m args below meth c H locs cells slots Q (F0 m pc ls rest)) (h : ∀ u : S, J u → W p l e R s m args below meth c H locs cells slots Q (F0 m pc ls rest)) : W p l e R s m args below meth c H locs cells slots Q (F0 m pc ls rest) := k h
theorem f_fold {T : State} (hr : va_Run p l e R s m args below meth c H locs cells slots 0 0 (F0 m pc ls st0) rest (fQp v As.toArray) (fun _ => False))
    (kk : W p l e R s m args below meth c H locs cells slots Q (F0 m (pc + 3) ls (v :: rest))) : W p l e R s m args below meth c H locs cells slots Q (F0 m pc ls st0) := by
  intro T hT X
  obtain ⟨v', st₀, t, T', L, h0, X', hL, e1, e2, ⟨hv, hh⟩, st⟩ := hr T hT X
  cases hv
  have hn : L = [] := by
    cases L with
    | nil => rfl
    | cons q L => exact absurd (hL q List.mem_cons_self) id
  subst hn
  rw [List.append_nil] at X'
  obtain ⟨t2, a1, b1⟩ := kk T' (by rw [e1, hh, h0]) X'
  exact ⟨t2, st t2 a1, b1⟩
theorem f_preS (hK : gC D dA s) (hP : fP D gcl w H) (hg : ∃ g : Nat → Nat, ∀ (k : Nat) (q : Nat × va_E), wc k = some q → w (g k) = some q) : PreS s H (fPc D dA wc As) As := ⟨fPc_blind, fun U hU hW => ⟨rfl, by rw [hU]; obtain ⟨g, hg⟩ := hg; exact hP.tag g hg, hK.moved hW⟩⟩
theorem f_id : ∃ g : Nat → Nat, ∀ (k : Nat) (q : Nat × va_E), w k = some q → w (g k) = some q := ⟨id, fun _ _ h => h⟩
/-- a call of a method that only reads: virtual, static -/
theorem f_pV (hx : p.tables.exec = Jvm.exec) (hb : c.code = cc) (hml : c.maxLocals = nL) (hown : s.vm.findClass own = some m.cls) (hts : ∀ w ∈ Ts, w.before args s = true) (hM : Met l y ws rm (fPc D dA wc (.ref b :: As)) (fQp v) 0 0 (fun _ => False)) (cw : CallW R s args own C index y bytes maxL ret ws rm 0 0 n) (hK : gC D dA s) (hP : fP D gcl w H) (hg : ∃ g : Nat → Nat, ∀ (k : Nat) (q : Nat × va_E), wc k = some q → w (g k) = some q)
    {ci t : Nat} {T : u_T} {N : Nat} {fs : List Value} (hw : w t = some (b, .inr (ci, fs))) (hc : gcl[ci]? = some (C, T, N)) (hn : As.length = n) (hsz : ls.size = nL) (hst : st0 = As.reverse ++ .ref b :: rest) (hW : (rest.map fun v => v.category).sum ≤ 8) (hdg : decode cc pc = .ok (.invokevirtual index, 3)) (hcm : cells ≤ R.cells ∧ slots ≤ R.slots)
    (kk : W p l e R s m args below meth c H locs cells slots Q (F0 m (pc + 3) ls (v :: rest))) : W p l e R s m args below meth c H locs cells slots Q (F0 m pc ls st0) :=
  f_fold (As := .ref b :: As) (T := s) (va_runV ⟨hx, hb, hml, hown, hts⟩ hM cw ⟨fPc_blind, f_recv hK.1 hP hc hw, (f_preS hK hP hg).2⟩ rfl hn hsz hst (lv_room hW) hdg hcm) kk
theorem f_pS (hx : p.tables.exec = Jvm.exec) (hb : c.code = cc) (hml : c.maxLocals = nL) (hown : s.vm.findClass own = some m.cls) (hts : ∀ w ∈ Ts, w.before args s = true) (hM : Met l y ws rm (fPc D dA wc As) (fQp v) 0 0 (fun _ => False)) (cw : CallB R s args own index y bytes maxL ret ws rm 0 0 n ∧ (Cond.static y).before args s = true) (hK : gC D dA s) (hP : fP D gcl w H) (hg : ∃ g : Nat → Nat, ∀ (k : Nat) (q : Nat × va_E), wc k = some q → w (g k) = some q)
    (hn : As.length = n) (hsz : ls.size = nL) (hst : st0 = As.reverse ++ rest) (hW : (rest.map fun v => v.category).sum ≤ 8) (hdg : decode cc pc = .ok (.invokestatic index, 3)) (hcm : cells ≤ R.cells ∧ slots ≤ R.slots)
    (kk : W p l e R s m args below meth c H locs cells slots Q (F0 m (pc + 3) ls (v :: rest))) : W p l e R s m args below meth c H locs cells slots Q (F0 m pc ls st0) :=
  f_fold (As := As) (T := s) (va_runS ⟨hx, hb, hml, hown, hts⟩ hM cw (f_preS hK hP hg) rfl hn hsz hst (lv_room hW) hdg hcm) kk
/-- the ends of a method that only reads -/
theorem f_reti {r v : Int32} (hx : p.tables.exec = Jvm.exec) (hb : c.code = cc) (hr : meth.sig.returnType = some .int) (hl : meth.locks = false) (hdg : decode cc pc = .ok (.ireturn, 1)) (e0 : r = v) : W p l e R s m args below meth c s.heap [] cells slots (MQ below (fQp (.int v)) args s cells slots (fun _ => False)) (F0 m pc ls [.int r]) := by
  subst e0
  exact W.iret hx hb hr (fun t ht hW => ⟨rfl, ht⟩) (fun q h => nomatch h) hdg hl
theorem f_retz {r v : Int32} (hx : p.tables.exec = Jvm.exec) (hb : c.code = cc) (hr : meth.sig.returnType = some .boolean) (hl : meth.locks = false) (hdg : decode cc pc = .ok (.ireturn, 1)) (hz : narrow .boolean (.int r) = .int r) (e0 : r = v) : W p l e R s m args below meth c s.heap [] cells slots (MQ below (fQp (.int v)) args s cells slots (fun _ => False)) (F0 m pc ls [.int r]) := by
  subst e0
  exact W.zret hx hb hr hz (fun t ht hW => ⟨rfl, ht⟩) (fun q h => nomatch h) hdg hl
theorem f_retl {r v : Int64} (hx : p.tables.exec = Jvm.exec) (hb : c.code = cc) (hr : meth.sig.returnType = some .long) (hl : meth.locks = false) (hdg : decode cc pc = .ok (.lreturn, 1)) (e0 : r = v) : W p l e R s m args below meth c s.heap [] cells slots (MQ below (fQp (.long v)) args s cells slots (fun _ => False)) (F0 m pc ls [.long r]) := by
  subst e0
  exact W.lret hx hb hr (fun t ht hW => ⟨rfl, ht⟩) (fun q h => nomatch h) hdg hl
/-- the ends of a method that writes -/
theorem f_mreti {S : Type} {v : S → Option Value} {post : S → Prop} {w1 : S → fw} {w2 : fw} {r : Int32} (hx : p.tables.exec = Jvm.exec) (hb : c.code = cc) (hr : meth.sig.returnType = some .int) (hl : meth.locks = false) (hI : FI D gcl (fA w sz) s.heap w2 H locs) (hdg : decode cc pc = .ok (.ireturn, 1)) (u : S) (ev : some (.int r) = v u) (hp : post u) (ew : w2 = w1 u) : W p l e R s m args below meth c H locs cells slots (MQ below (fQm D w sz v post w1) args s cells slots (fA w sz)) (F0 m pc ls [.int r]) := by
  subst ew
  exact W.iret hx hb hr (fun t ht hW => ⟨⟨u, by rw [ev], hp, by rw [ht]; exact hI.1, hI.2.1⟩, hI.2.2.1.F ht⟩) hI.2.2.1.2.2 hdg hl
theorem f_mretz {S : Type} {v : S → Option Value} {post : S → Prop} {w1 : S → fw} {w2 : fw} {r : Int32} (hx : p.tables.exec = Jvm.exec) (hb : c.code = cc) (hr : meth.sig.returnType = some .boolean) (hl : meth.locks = false) (hI : FI D gcl (fA w sz) s.heap w2 H locs) (hdg : decode cc pc = .ok (.ireturn, 1)) (hz : narrow .boolean (.int r) = .int r) (u : S) (ev : some (.int r) = v u) (hp : post u) (ew : w2 = w1 u) : W p l e R s m args below meth c H locs cells slots (MQ below (fQm D w sz v post w1) args s cells slots (fA w sz)) (F0 m pc ls [.int r]) := by
  subst ew
  exact W.zret hx hb hr hz (fun t ht hW => ⟨⟨u, by rw [ev], hp, by rw [ht]; exact hI.1, hI.2.1⟩, hI.2.2.1.F ht⟩) hI.2.2.1.2.2 hdg hl
theorem f_mretl {S : Type} {v : S → Option Value} {post : S → Prop} {w1 : S → fw} {w2 : fw} {r : Int64} (hx : p.tables.exec = Jvm.exec) (hb : c.code = cc) (hr : meth.sig.returnType = some .long) (hl : meth.locks = false) (hI : FI D gcl (fA w sz) s.heap w2 H locs) (hdg : decode cc pc = .ok (.lreturn, 1)) (u : S) (ev : some (.long r) = v u) (hp : post u) (ew : w2 = w1 u) : W p l e R s m args below meth c H locs cells slots (MQ below (fQm D w sz v post w1) args s cells slots (fA w sz)) (F0 m pc ls [.long r]) := by
  subst ew
  exact W.lret hx hb hr (fun t ht hW => ⟨⟨u, by rw [ev], hp, by rw [ht]; exact hI.1, hI.2.1⟩, hI.2.2.1.F ht⟩) hI.2.2.1.2.2 hdg hl
theorem f_mretv {S : Type} {v : S → Option Value} {post : S → Prop} {w1 : S → fw} {w2 : fw} (hx : p.tables.exec = Jvm.exec) (hb : c.code = cc) (hr : meth.sig.returnType = none) (hl : meth.locks = false) (hI : FI D gcl (fA w sz) s.heap w2 H locs) (hdg : decode cc pc = .ok (.return_, 1)) (u : S) (ev : none = v u) (hp : post u) (ew : w2 = w1 u) : W p l e R s m args below meth c H locs cells slots (MQ below (fQm D w sz v post w1) args s cells slots (fA w sz)) (F0 m pc ls []) := by
  subst ew
  exact W.vret hx hb hr (fun t ht hW => ⟨⟨u, by rw [ev], hp, by rw [ht]; exact hI.1, hI.2.1⟩, hI.2.2.1.F ht⟩) hI.2.2.1.2.2 hdg hl
/-- a call of a method that writes -/
theorem f_foldM {S : Type} {w1 : S → fw} {vv : S → Option Value} {post : S → Prop} (hr : va_Run p l e R s m args below meth c H locs cells slots mc ms (F0 m pc ls st0) rest (fQm D wc H.size vv post w1 As.toArray) (fA wc H.size)) (hI : FI D gcl A H0 w H locs) (hA : ∀ (k : Nat) (q : Nat × va_E), wc k = some q → A q.1)
    (kk : ∀ (u : S) (H1 : Heap) (locs1 : List Loc), post u → fP D gcl (w1 u) H1 → fD (fA wc H.size) (w1 u) → H.size ≤ H1.size → (∀ q : Nat, q < H.size → ¬ fA wc H.size q → H1[q]? = H[q]?) → va_S A H0 H1 locs1 → W p l e R s m args below meth c H1 locs1 (cells + mc) (slots + ms) Q (F0 m (pc + 3) ls ((vv u).toList ++ rest))) : W p l e R s m args below meth c H locs cells slots Q (F0 m pc ls st0) := by
  have hS := hI.2.2.1
  have hAn := hI.2.2.2
  have hf : ∀ q : Nat, fA wc H.size q → A q := by
    intro q hq
    rcases hq with ⟨k, e, h⟩ | h
    · exact hA k _ h
    · exact hAn q (Nat.le_trans hS.1 h)
  intro T hT X
  obtain ⟨v, st₀, t, T', L, h0, X', hL, e1, e2, ⟨⟨u, hv, hp, hP1, hD1⟩, hz, hk⟩, st⟩ := hr T hT X
  cases hv
  rw [h0] at hz hk
  obtain ⟨t2, a1, b1⟩ := kk u T'.heap (locs ++ L) hp (by rw [e1]; exact hP1) hD1 (by rw [e1]; exact hz) (fun q h1 h2 => by rw [e1]; exact hk q h1 h2)
    ⟨Nat.le_trans hS.1 (by rw [e1]; exact hz), fun q h1 h2 => by rw [e1, hk q (Nat.lt_of_lt_of_le h1 hS.1) (fun z => h2 (hf q z))]; exact hS.2.1 q h1 h2, fun q hq => by
      rcases List.mem_append.mp hq with h | h
      · exact hS.2.2 q h
      · exact hf _ (hL q h)⟩ T' rfl X'
  exact ⟨t2, st t2 a1, b1⟩
theorem FI.joinS {w1 : fw} {H1 : Heap} {locs1 : List Loc} (h : FI D gcl A H0 w H locs) (hP1 : fP D gcl w1 H1) (hD1 : fD (fA w H.size) w1) (hS1 : va_S A H0 H1 locs1) : FI D gcl A H0 w1 H1 locs1 := by
  refine ⟨hP1, ⟨hD1.1, fun k q hk => ?_⟩, hS1, h.2.2.2⟩
  rcases hD1.2 k q hk with ⟨k', e, hke⟩ | h6
  · exact h.2.1.2 k' (q.1, e) hke
  · exact h.2.2.2 _ (Nat.le_trans h.2.2.1.1 h6)
theorem f_preM (hK : gC D dA s) (hI : FI D gcl A H0 w H locs) (g : Nat → Nat) (hg : ∀ (k : Nat) (q : Nat × va_E), wc k = some q → w (g k) = some q) (hi : ∀ (i j : Nat) (p q : Nat × va_E), wc i = some p → wc j = some q → g i = g j → i = j) : PreS s H (fPm D dA wc H.size As) As :=
  ⟨fPm_blind, fun U hU hW => ⟨rfl, by rw [hU], by rw [hU]; exact hI.1.tag g hg, hK.moved hW, ⟨fun i j p q h1 h2 he => hi i j p q h1 h2 (hI.2.1.1 _ _ p q (hg i p h1) (hg j q h2) he), fun _ _ _ => trivial⟩⟩⟩
theorem f_mV0 {S : Type} {w1 : S → fw} {vv : S → Value} {post : S → Prop} (hx : p.tables.exec = Jvm.exec) (hb : c.code = cc) (hml : c.maxLocals = nL) (hown : s.vm.findClass own = some m.cls) (hts : ∀ w ∈ Ts, w.before args s = true) (hM : Met l y ws rm (fPm D dA w H.size (.ref b :: As)) (fQm D w H.size (fun u => some (vv u)) post w1) 0 0 (fA w H.size)) (cw : CallW R s args own C index y bytes maxL ret ws rm 0 0 n) (hK : gC D dA s) (hI : FI D gcl A H0 w H locs)
    {ci t : Nat} {T : u_T} {N : Nat} {fs : List Value} (hw : w t = some (b, .inr (ci, fs))) (hc : gcl[ci]? = some (C, T, N)) (hn : As.length = n) (hsz : ls.size = nL) (hst : st0 = As.reverse ++ .ref b :: rest) (hW : (rest.map fun v => v.category).sum ≤ 8) (hdg : decode cc pc = .ok (.invokevirtual index, 3)) (hcm : cells ≤ R.cells ∧ slots ≤ R.slots)
    (kk : ∀ (u : S) (H1 : Heap) (locs1 : List Loc), post u → FI D gcl A H0 (w1 u) H1 locs1 → W p l e R s m args below meth c H1 locs1 cells slots Q (F0 m (pc + 3) ls (vv u :: rest))) : W p l e R s m args below meth c H locs cells slots Q (F0 m pc ls st0) :=
  f_foldM (As := .ref b :: As) (mc := 0) (ms := 0) (va_runV ⟨hx, hb, hml, hown, hts⟩ hM cw ⟨fPm_blind, f_recv hK.1 hI.1 hc hw, (f_preM hK hI id (fun _ _ h => h) (fun _ _ _ _ _ _ h => h)).2⟩ rfl hn hsz hst (lv_room hW) hdg hcm) hI (fun k q h => hI.2.1.2 k q h) (fun u H1 locs1 hp hP1 hD1 hz hk hS => kk u H1 locs1 hp (hI.joinS hP1 hD1 hS))
theorem f_mV0v {S : Type} {w1 : S → fw} {post : S → Prop} (hx : p.tables.exec = Jvm.exec) (hb : c.code = cc) (hml : c.maxLocals = nL) (hown : s.vm.findClass own = some m.cls) (hts : ∀ w ∈ Ts, w.before args s = true) (hM : Met l y ws rm (fPm D dA w H.size (.ref b :: As)) (fQm D w H.size (fun _ => none) post w1) 0 0 (fA w H.size)) (cw : CallW R s args own C index y bytes maxL ret ws rm 0 0 n) (hK : gC D dA s) (hI : FI D gcl A H0 w H locs)
    {ci t : Nat} {T : u_T} {N : Nat} {fs : List Value} (hw : w t = some (b, .inr (ci, fs))) (hc : gcl[ci]? = some (C, T, N)) (hn : As.length = n) (hsz : ls.size = nL) (hst : st0 = As.reverse ++ .ref b :: rest) (hW : (rest.map fun v => v.category).sum ≤ 8) (hdg : decode cc pc = .ok (.invokevirtual index, 3)) (hcm : cells ≤ R.cells ∧ slots ≤ R.slots)
    (kk : ∀ (u : S) (H1 : Heap) (locs1 : List Loc), post u → FI D gcl A H0 (w1 u) H1 locs1 → W p l e R s m args below meth c H1 locs1 cells slots Q (F0 m (pc + 3) ls rest)) : W p l e R s m args below meth c H locs cells slots Q (F0 m pc ls st0) :=
  f_foldM (As := .ref b :: As) (mc := 0) (ms := 0) (va_runV ⟨hx, hb, hml, hown, hts⟩ hM cw ⟨fPm_blind, f_recv hK.1 hI.1 hc hw, (f_preM hK hI id (fun _ _ h => h) (fun _ _ _ _ _ _ h => h)).2⟩ rfl hn hsz hst (lv_room hW) hdg hcm) hI (fun k q h => hI.2.1.2 k q h) (fun u H1 locs1 hp hP1 hD1 hz hk hS => kk u H1 locs1 hp (hI.joinS hP1 hD1 hS))
theorem f_if_eqL {x y : Int64} {off : Int} {tgt : Nat} (hx : p.tables.exec = Jvm.exec) (hb : c.code = cc) (hdg : decode cc pc = .ok (.ifCond .eq off, 3)) (ht : (pc : Int) + off = (tgt : Int)) (kt : x = y → W p l e R s m args below meth c H locs cells slots Q (F0 m tgt ls rest)) (kf : ¬ x = y → W p l e R s m args below meth c H locs cells slots Q (F0 m (pc + 3) ls rest)) : W p l e R s m args below meth c H locs cells slots Q (F0 m pc ls (.int (lg_cmp x y) :: rest)) := lv_if_eq hx hb hdg ht (fun h => kt ((lg_cmp_eq x y).mp h)) (fun h => kf (fun z => h ((lg_cmp_eq x y).mpr z)))
theorem f_if_neL {x y : Int64} {off : Int} {tgt : Nat} (hx : p.tables.exec = Jvm.exec) (hb : c.code = cc) (hdg : decode cc pc = .ok (.ifCond .ne off, 3)) (ht : (pc : Int) + off = (tgt : Int)) (kt : ¬ x = y → W p l e R s m args below meth c H locs cells slots Q (F0 m tgt ls rest)) (kf : x = y → W p l e R s m args below meth c H locs cells slots Q (F0 m (pc + 3) ls rest)) : W p l e R s m args below meth c H locs cells slots Q (F0 m pc ls (.int (lg_cmp x y) :: rest)) := lv_if_ne hx hb hdg ht (fun h => kt (fun z => h ((lg_cmp_eq x y).mpr z))) (fun h => kf ((lg_cmp_eq x y).mp h))
theorem f_if_ltL {x y : Int64} {off : Int} {tgt : Nat} (hx : p.tables.exec = Jvm.exec) (hb : c.code = cc) (hdg : decode cc pc = .ok (.ifCond .lt off, 3)) (ht : (pc : Int) + off = (tgt : Int)) (kt : x < y → W p l e R s m args below meth c H locs cells slots Q (F0 m tgt ls rest)) (kf : ¬ x < y → W p l e R s m args below meth c H locs cells slots Q (F0 m (pc + 3) ls rest)) : W p l e R s m args below meth c H locs cells slots Q (F0 m pc ls (.int (lg_cmp x y) :: rest)) := lv_if_lt hx hb hdg ht (fun h => kt ((lg_cmp_lt x y).mp h)) (fun h => kf (fun z => h ((lg_cmp_lt x y).mpr z)))
theorem f_if_geL {x y : Int64} {off : Int} {tgt : Nat} (hx : p.tables.exec = Jvm.exec) (hb : c.code = cc) (hdg : decode cc pc = .ok (.ifCond .ge off, 3)) (ht : (pc : Int) + off = (tgt : Int)) (kt : y ≤ x → W p l e R s m args below meth c H locs cells slots Q (F0 m tgt ls rest)) (kf : ¬ y ≤ x → W p l e R s m args below meth c H locs cells slots Q (F0 m (pc + 3) ls rest)) : W p l e R s m args below meth c H locs cells slots Q (F0 m pc ls (.int (lg_cmp x y) :: rest)) := lv_if_ge hx hb hdg ht (fun h => kt ((lg_cmp_ge x y).mp h)) (fun h => kf (fun z => h ((lg_cmp_ge x y).mpr z)))
theorem f_if_gtL {x y : Int64} {off : Int} {tgt : Nat} (hx : p.tables.exec = Jvm.exec) (hb : c.code = cc) (hdg : decode cc pc = .ok (.ifCond .gt off, 3)) (ht : (pc : Int) + off = (tgt : Int)) (kt : y < x → W p l e R s m args below meth c H locs cells slots Q (F0 m tgt ls rest)) (kf : ¬ y < x → W p l e R s m args below meth c H locs cells slots Q (F0 m (pc + 3) ls rest)) : W p l e R s m args below meth c H locs cells slots Q (F0 m pc ls (.int (lg_cmp x y) :: rest)) := lv_if_gt hx hb hdg ht (fun h => kt ((lg_cmp_gt x y).mp h)) (fun h => kf (fun z => h ((lg_cmp_gt x y).mpr z)))
theorem f_if_leL {x y : Int64} {off : Int} {tgt : Nat} (hx : p.tables.exec = Jvm.exec) (hb : c.code = cc) (hdg : decode cc pc = .ok (.ifCond .le off, 3)) (ht : (pc : Int) + off = (tgt : Int)) (kt : x ≤ y → W p l e R s m args below meth c H locs cells slots Q (F0 m tgt ls rest)) (kf : ¬ x ≤ y → W p l e R s m args below meth c H locs cells slots Q (F0 m (pc + 3) ls rest)) : W p l e R s m args below meth c H locs cells slots Q (F0 m pc ls (.int (lg_cmp x y) :: rest)) := lv_if_le hx hb hdg ht (fun h => kt ((lg_cmp_le x y).mp h)) (fun h => kf (fun z => h ((lg_cmp_le x y).mpr z)))
theorem f_swCase (q : Prop) [Decidable q] {g : JFrame} (k1 : q → W p l e R s m args below meth c H locs cells slots Q g) (k2 : ¬ q → W p l e R s m args below meth c H locs cells slots Q g) : W p l e R s m args below meth c H locs cells slots Q g := if h : q then k1 h else k2 h
end FWC
/-- out of a switch's range: none of its cases -/
theorem f_swOut {x : Int32} {lo hi : Int} {n : Nat} (h : ∀ j : Nat, j < n → ¬ x.toInt = lo + j) (hh : hi = lo + n - 1) : x.toInt < lo ∨ hi < x.toInt := by
  rcases Int.lt_or_le x.toInt lo with h1 | h1
  · exact Or.inl h1
  · rcases Int.lt_or_le hi x.toInt with h2 | h2
    · exact Or.inr h2
    · exfalso
      refine h (x.toInt - lo).toNat ?_ ?_ <;> omega
theorem f_sw2 {x : Int32} {lo : Int} (h0 : ¬ x = Int32.ofInt (lo + 0)) (h1 : ¬ x = Int32.ofInt (lo + 1)) : ∀ j : Nat, j < 2 → ¬ x.toInt = lo + j := by
  intro j hj e
  have h : x = Int32.ofInt (lo + j) := by rw [← e, Int32.ofInt_toInt]
  match j, hj with
  | 0, _ => exact h0 h
  | 1, _ => exact h1 h
theorem f_sw3 {x : Int32} {lo : Int} (h0 : ¬ x = Int32.ofInt (lo + 0)) (h1 : ¬ x = Int32.ofInt (lo + 1)) (h2 : ¬ x = Int32.ofInt (lo + 2)) : ∀ j : Nat, j < 3 → ¬ x.toInt = lo + j := by
  intro j hj e
  have h : x = Int32.ofInt (lo + j) := by rw [← e, Int32.ofInt_toInt]
  match j, hj with
  | 0, _ => exact h0 h
  | 1, _ => exact h1 h
  | 2, _ => exact h2 h
theorem f_sw4 {x : Int32} {lo : Int} (h0 : ¬ x = Int32.ofInt (lo + 0)) (h1 : ¬ x = Int32.ofInt (lo + 1)) (h2 : ¬ x = Int32.ofInt (lo + 2)) (h3 : ¬ x = Int32.ofInt (lo + 3)) : ∀ j : Nat, j < 4 → ¬ x.toInt = lo + j := by
  intro j hj e
  have h : x = Int32.ofInt (lo + j) := by rw [← e, Int32.ofInt_toInt]
  match j, hj with
  | 0, _ => exact h0 h
  | 1, _ => exact h1 h
  | 2, _ => exact h2 h
  | 3, _ => exact h3 h
theorem f_sw5 {x : Int32} {lo : Int} (h0 : ¬ x = Int32.ofInt (lo + 0)) (h1 : ¬ x = Int32.ofInt (lo + 1)) (h2 : ¬ x = Int32.ofInt (lo + 2)) (h3 : ¬ x = Int32.ofInt (lo + 3)) (h4 : ¬ x = Int32.ofInt (lo + 4)) : ∀ j : Nat, j < 5 → ¬ x.toInt = lo + j := by
  intro j hj e
  have h : x = Int32.ofInt (lo + j) := by rw [← e, Int32.ofInt_toInt]
  match j, hj with
  | 0, _ => exact h0 h
  | 1, _ => exact h1 h
  | 2, _ => exact h2 h
  | 3, _ => exact h3 h
  | 4, _ => exact h4 h
theorem f_sw6 {x : Int32} {lo : Int} (h0 : ¬ x = Int32.ofInt (lo + 0)) (h1 : ¬ x = Int32.ofInt (lo + 1)) (h2 : ¬ x = Int32.ofInt (lo + 2)) (h3 : ¬ x = Int32.ofInt (lo + 3)) (h4 : ¬ x = Int32.ofInt (lo + 4)) (h5 : ¬ x = Int32.ofInt (lo + 5)) : ∀ j : Nat, j < 6 → ¬ x.toInt = lo + j := by
  intro j hj e
  have h : x = Int32.ofInt (lo + j) := by rw [← e, Int32.ofInt_toInt]
  match j, hj with
  | 0, _ => exact h0 h
  | 1, _ => exact h1 h
  | 2, _ => exact h2 h
  | 3, _ => exact h3 h
  | 4, _ => exact h4 h
  | 5, _ => exact h5 h
theorem f_sw7 {x : Int32} {lo : Int} (h0 : ¬ x = Int32.ofInt (lo + 0)) (h1 : ¬ x = Int32.ofInt (lo + 1)) (h2 : ¬ x = Int32.ofInt (lo + 2)) (h3 : ¬ x = Int32.ofInt (lo + 3)) (h4 : ¬ x = Int32.ofInt (lo + 4)) (h5 : ¬ x = Int32.ofInt (lo + 5)) (h6 : ¬ x = Int32.ofInt (lo + 6)) : ∀ j : Nat, j < 7 → ¬ x.toInt = lo + j := by
  intro j hj e
  have h : x = Int32.ofInt (lo + j) := by rw [← e, Int32.ofInt_toInt]
  match j, hj with
  | 0, _ => exact h0 h
  | 1, _ => exact h1 h
  | 2, _ => exact h2 h
  | 3, _ => exact h3 h
  | 4, _ => exact h4 h
  | 5, _ => exact h5 h
  | 6, _ => exact h6 h
theorem f_sw8 {x : Int32} {lo : Int} (h0 : ¬ x = Int32.ofInt (lo + 0)) (h1 : ¬ x = Int32.ofInt (lo + 1)) (h2 : ¬ x = Int32.ofInt (lo + 2)) (h3 : ¬ x = Int32.ofInt (lo + 3)) (h4 : ¬ x = Int32.ofInt (lo + 4)) (h5 : ¬ x = Int32.ofInt (lo + 5)) (h6 : ¬ x = Int32.ofInt (lo + 6)) (h7 : ¬ x = Int32.ofInt (lo + 7)) : ∀ j : Nat, j < 8 → ¬ x.toInt = lo + j := by
  intro j hj e
  have h : x = Int32.ofInt (lo + j) := by rw [← e, Int32.ofInt_toInt]
  match j, hj with
  | 0, _ => exact h0 h
  | 1, _ => exact h1 h
  | 2, _ => exact h2 h
  | 3, _ => exact h3 h
  | 4, _ => exact h4 h
  | 5, _ => exact h5 h
  | 6, _ => exact h6 h
  | 7, _ => exact h7 h
theorem f_sw9 {x : Int32} {lo : Int} (h0 : ¬ x = Int32.ofInt (lo + 0)) (h1 : ¬ x = Int32.ofInt (lo + 1)) (h2 : ¬ x = Int32.ofInt (lo + 2)) (h3 : ¬ x = Int32.ofInt (lo + 3)) (h4 : ¬ x = Int32.ofInt (lo + 4)) (h5 : ¬ x = Int32.ofInt (lo + 5)) (h6 : ¬ x = Int32.ofInt (lo + 6)) (h7 : ¬ x = Int32.ofInt (lo + 7)) (h8 : ¬ x = Int32.ofInt (lo + 8)) : ∀ j : Nat, j < 9 → ¬ x.toInt = lo + j := by
  intro j hj e
  have h : x = Int32.ofInt (lo + j) := by rw [← e, Int32.ofInt_toInt]
  match j, hj with
  | 0, _ => exact h0 h
  | 1, _ => exact h1 h
  | 2, _ => exact h2 h
  | 3, _ => exact h3 h
  | 4, _ => exact h4 h
  | 5, _ => exact h5 h
  | 6, _ => exact h6 h
  | 7, _ => exact h7 h
  | 8, _ => exact h8 h
theorem f_sw10 {x : Int32} {lo : Int} (h0 : ¬ x = Int32.ofInt (lo + 0)) (h1 : ¬ x = Int32.ofInt (lo + 1)) (h2 : ¬ x = Int32.ofInt (lo + 2)) (h3 : ¬ x = Int32.ofInt (lo + 3)) (h4 : ¬ x = Int32.ofInt (lo + 4)) (h5 : ¬ x = Int32.ofInt (lo + 5)) (h6 : ¬ x = Int32.ofInt (lo + 6)) (h7 : ¬ x = Int32.ofInt (lo + 7)) (h8 : ¬ x = Int32.ofInt (lo + 8)) (h9 : ¬ x = Int32.ofInt (lo + 9)) : ∀ j : Nat, j < 10 → ¬ x.toInt = lo + j := by
  intro j hj e
  have h : x = Int32.ofInt (lo + j) := by rw [← e, Int32.ofInt_toInt]
  match j, hj with
  | 0, _ => exact h0 h
  | 1, _ => exact h1 h
  | 2, _ => exact h2 h
  | 3, _ => exact h3 h
  | 4, _ => exact h4 h
  | 5, _ => exact h5 h
  | 6, _ => exact h6 h
  | 7, _ => exact h7 h
  | 8, _ => exact h8 h
  | 9, _ => exact h9 h

