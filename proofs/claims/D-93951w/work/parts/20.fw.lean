/-! WORLDS AS FUNCTIONS: a world w gives to some tags (numbers) a cell (address, content); the addresses are apart. -/
abbrev fw : Type := Nat → Option (Nat × va_E)
def fP (D : va_G) (cl : List vw_C) (w : fw) (H : Heap) : Prop := ∀ (k : Nat) (q : Nat × va_E), w k = some q → va_at D cl q H
def fD (A : Nat → Prop) (w : fw) : Prop := (∀ (i j : Nat) (p q : Nat × va_E), w i = some p → w j = some q → p.1 = q.1 → i = j) ∧ ∀ (k : Nat) (q : Nat × va_E), w k = some q → A q.1
def fup (w : fw) (k : Nat) (q : Nat × va_E) : fw := fun j => if j = k then some q else w j
/-- which cells a method may change: its world's, and those that it makes -/
def fA (w : fw) (sz : Nat) : Nat → Prop := fun q => (∃ (k : Nat) (e : va_E), w k = some (q, e)) ∨ sz ≤ q
theorem fup_s {w : fw} {k : Nat} {q : Nat × va_E} : fup w k q k = some q := if_pos rfl
theorem fup_n {w : fw} {k j : Nat} {q : Nat × va_E} (h : j ≠ k) : fup w k q j = w j := if_neg h
/-- all that a walk carries: the world w in the heap H, its cells apart and of the kind A, nothing outside A moved since H0 -/
def FI (D : va_G) (cl : List vw_C) (A : Nat → Prop) (H0 : Heap) (w : fw) (H : Heap) (locs : List Loc) : Prop := fP D cl w H ∧ fD A w ∧ va_S A H0 H locs ∧ ∀ q : Nat, H0.size ≤ q → A q
section FWA
variable {D : va_G} {cl : List vw_C} {A : Nat → Prop} {H0 H H1 : Heap} {w w' : fw} {locs locs1 : List Loc}
theorem fP.kept (h : fP D cl w H) (hq : ∀ (k : Nat) (q : Nat × va_E), w k = some q → H1[q.1]? = H[q.1]?) : fP D cl w H1 := fun k q hk => (h k q hk).kept (hq k q hk)
theorem fP.sub (h : fP D cl w H) (hs : ∀ (k : Nat) (q : Nat × va_E), w' k = some q → w k = some q) : fP D cl w' H := fun k q hk => h k q (hs k q hk)
theorem fP.tag (h : fP D cl w H) (g : Nat → Nat) (hs : ∀ (k : Nat) (q : Nat × va_E), w' k = some q → w (g k) = some q) : fP D cl w' H := fun k q hk => h (g k) q (hs k q hk)
theorem fD.sub (h : fD A w) (hs : ∀ (k : Nat) (q : Nat × va_E), w' k = some q → w k = some q) : fD A w' := ⟨fun i j p q hi hj e => h.1 i j p q (hs i p hi) (hs j q hj) e, fun k q hk => h.2 k q (hs k q hk)⟩
theorem fD.any (h : fD A w) : fD (fun _ => True) w := ⟨h.1, fun _ _ _ => trivial⟩
theorem fD.self (h : fD A w) (sz : Nat) : fD (fA w sz) w := ⟨h.1, fun k q hk => Or.inl ⟨k, q.2, hk⟩⟩
theorem fP.lt (h : fP D cl w H) {k : Nat} {q : Nat × va_E} (hk : w k = some q) : q.1 < H.size := (h k q hk).lt
theorem FI.congr (h : FI D cl A H0 w H locs) (e : w = w') : FI D cl A H0 w' H locs := e ▸ h
theorem FI.sub (h : FI D cl A H0 w H locs) (hs : ∀ (k : Nat) (q : Nat × va_E), w' k = some q → w k = some q) : FI D cl A H0 w' H locs := ⟨h.1.sub hs, h.2.1.sub hs, h.2.2⟩
/-- a method's start -/
theorem FI.start (hP : fP D cl w H) (hD : fD (fun _ => True) w) : FI D cl (fA w H.size) H w H [] := ⟨hP, hD.self _, va_S.rf, fun _ h => Or.inr h⟩
theorem FI.set (h : FI D cl A H0 w H locs) {t a i : Nat} {e0 e : va_E} (hw : w t = some (a, e0)) (he : va_at D cl (a, e) H1) (z : H1.size = H.size) (oq : ∀ q : Nat, q ≠ a → H1[q]? = H[q]?) : FI D cl A H0 (fup w t (a, e)) H1 (locs ++ [⟨a, i⟩]) := by
  obtain ⟨hP, hD, hS, hA⟩ := h
  refine ⟨fun k q hk => ?_, ⟨fun i j p q hi hj hpq => ?_, fun k q hk => ?_⟩, hS.put z oq (hD.2 t _ hw), hA⟩
  · by_cases hkt : k = t
    · subst hkt
      rw [fup_s] at hk
      cases hk
      exact he
    · rw [fup_n hkt] at hk
      exact (hP k q hk).kept (oq q.1 (fun z => hkt (hD.1 k t q (a, e0) hk hw z)))
  · by_cases h1 : i = t
    · subst h1
      rw [fup_s] at hi
      cases hi
      by_cases h2 : j = i
      · exact h2.symm
      · rw [fup_n h2] at hj
        exact hD.1 i j (a, e0) q hw hj hpq
    · rw [fup_n h1] at hi
      by_cases h2 : j = t
      · subst h2
        rw [fup_s] at hj
        cases hj
        exact hD.1 i j p (a, e0) hi hw hpq
      · rw [fup_n h2] at hj
        exact hD.1 i j p q hi hj hpq
  · by_cases hkt : k = t
    · subst hkt
      rw [fup_s] at hk
      cases hk
      exact hD.2 k (a, e0) hw
    · rw [fup_n hkt] at hk
      exact hD.2 k q hk
theorem FI.push (h : FI D cl A H0 w H locs) {t : Nat} {e : va_E} (hw : w t = none) (he : va_at D cl (H.size, e) H1) (z : H1.size = H.size + 1) (oq : ∀ q : Nat, q < H.size → H1[q]? = H[q]?) : FI D cl A H0 (fup w t (H.size, e)) H1 locs := by
  obtain ⟨hP, hD, hS, hA⟩ := h
  have hlt : ∀ (k : Nat) (q : Nat × va_E), w k = some q → q.1 < H.size := fun k q hk => (hP k q hk).lt
  refine ⟨fun k q hk => ?_, ⟨fun i j p q hi hj hpq => ?_, fun k q hk => ?_⟩, ⟨Nat.le_trans hS.1 (by omega), fun x h1 h2 => (oq x (Nat.lt_of_lt_of_le h1 hS.1)).trans (hS.2.1 x h1 h2), hS.2.2⟩, hA⟩
  · by_cases hkt : k = t
    · subst hkt
      rw [fup_s] at hk
      cases hk
      exact he
    · rw [fup_n hkt] at hk
      exact (hP k q hk).kept (oq q.1 (hlt k q hk))
  · by_cases h1 : i = t
    · subst h1
      rw [fup_s] at hi
      cases hi
      by_cases h2 : j = i
      · exact h2.symm
      · rw [fup_n h2] at hj
        exact absurd hpq (Nat.ne_of_gt (hlt j q hj))
    · rw [fup_n h1] at hi
      by_cases h2 : j = t
      · subst h2
        rw [fup_s] at hj
        cases hj
        exact absurd hpq (Nat.ne_of_lt (hlt i p hi))
      · rw [fup_n h2] at hj
        exact hD.1 i j p q hi hj hpq
  · by_cases hkt : k = t
    · subst hkt
      rw [fup_s] at hk
      cases hk
      exact hA _ hS.1
    · rw [fup_n hkt] at hk
      exact hD.2 k q hk
/-- behind a call: the callee's world wc stood in w at the tags g; now it is w1, new cells come from H.size on; w2 is made of what the call left alone and of w1 -/
theorem FI.join (h : FI D cl A H0 w H locs) {wc w1 w2 : fw} (g : Nat → Nat) (hg : ∀ (k : Nat) (q : Nat × va_E), wc k = some q → w (g k) = some q)
    (hP1 : fP D cl w1 H1) (hD1 : fD (fA wc H.size) w1) (hk1 : ∀ q : Nat, q < H.size → ¬ fA wc H.size q → H1[q]? = H[q]?) (hS1 : va_S A H0 H1 locs1)
    (h2 : ∀ (t : Nat) (q : Nat × va_E), w2 t = some q → (w t = some q ∧ ∀ (k : Nat) (p : Nat × va_E), wc k = some p → g k ≠ t) ∨ (∃ k : Nat, w1 k = some q ∧ ∀ (t' k' : Nat) (p : Nat × va_E), w2 t' = some p → ¬ (w t' = some p ∧ ∀ (k : Nat) (p : Nat × va_E), wc k = some p → g k ≠ t') → w1 k' = some p → k' = k → t' = t)) : FI D cl A H0 w2 H1 locs1 := by
  obtain ⟨hP, hD, hS, hA⟩ := h
  have hfree : ∀ (t : Nat) (q : Nat × va_E), w t = some q → (∀ (k : Nat) (p : Nat × va_E), wc k = some p → g k ≠ t) → ¬ fA wc H.size q.1 := by
    intro t q hq hk hf
    rcases hf with ⟨k, e, hke⟩ | hf
    · exact hk k _ hke (hD.1 _ _ _ _ (hg k _ hke) hq rfl)
    · exact absurd (hP t q hq).lt (by omega)
  refine ⟨fun t q hq => ?_, ⟨fun i j p q hi hj hpq => ?_, fun t q hq => ?_⟩, hS1, hA⟩
  · rcases h2 t q hq with ⟨h3, h4⟩ | ⟨k, h3, -⟩
    · exact (hP t q h3).kept (hk1 _ (hP t q h3).lt (hfree t q h3 h4))
    · exact hP1 k q h3
  · by_cases h3 : w i = some p ∧ ∀ (k : Nat) (p : Nat × va_E), wc k = some p → g k ≠ i
    · by_cases h4 : w j = some q ∧ ∀ (k : Nat) (p : Nat × va_E), wc k = some p → g k ≠ j
      · exact hD.1 i j p q h3.1 h4.1 hpq
      · rcases h2 j q hj with h5 | ⟨k, h5, -⟩
        · exact absurd h5 h4
        · have h6 := hD1.2 k q h5
          rw [← hpq] at h6
          exact absurd h6 (hfree i p h3.1 h3.2)
    · rcases h2 i p hi with h5 | ⟨k, h5, h7⟩
      · exact absurd h5 h3
      · by_cases h4 : w j = some q ∧ ∀ (k : Nat) (p : Nat × va_E), wc k = some p → g k ≠ j
        · have h6 := hD1.2 k p h5
          rw [hpq] at h6
          exact absurd h6 (hfree j q h4.1 h4.2)
        · rcases h2 j q hj with h6 | ⟨k', h6, h8⟩
          · exact absurd h6 h4
          · have hkk : k' = k := hD1.1 k' k q p h6 h5 hpq.symm
            exact (h7 j k' q hj h4 h6 hkk).symm
  · rcases h2 t q hq with ⟨h3, -⟩ | ⟨k, h3, -⟩
    · exact hD.2 t q h3
    · have h6 := hD1.2 k q h3
      rcases h6 with ⟨k', e, hke⟩ | h6
      · exact hD.2 (g k') (q.1, e) (hg k' (q.1, e) hke)
      · exact hA _ (Nat.le_trans hS.1 h6)
/-- .. where the callee's world lies in w at the tags from b on -/
def fin (w : fw) (b n : Nat) (v : fw) : fw := fun t => if b ≤ t ∧ t < b + n then v (t - b) else w t
theorem fin_in {w v : fw} {b n k : Nat} (h : k < n) : fin w b n v (b + k) = v k := by
  show (if b ≤ b + k ∧ b + k < b + n then v (b + k - b) else w (b + k)) = v k
  rw [if_pos ⟨by omega, by omega⟩, show b + k - b = k by omega]
theorem fin_out {w v : fw} {b n t : Nat} (h : t < b ∨ b + n ≤ t) : fin w b n v t = w t := by
  show (if b ≤ t ∧ t < b + n then v (t - b) else w t) = w t
  rw [if_neg (by omega)]
theorem FI.joinAt (h : FI D cl A H0 w H locs) {wc w1 : fw} (b n : Nat) (hc : ∀ (k : Nat) (q : Nat × va_E), wc k = some q → k < n) (hc1 : ∀ (k : Nat) (q : Nat × va_E), w1 k = some q → k < n) (hg : ∀ k : Nat, k < n → w (b + k) = wc k)
    (hP1 : fP D cl w1 H1) (hD1 : fD (fA wc H.size) w1) (hk1 : ∀ q : Nat, q < H.size → ¬ fA wc H.size q → H1[q]? = H[q]?) (hS1 : va_S A H0 H1 locs1) : FI D cl A H0 (fin w b n w1) H1 locs1 := by
  refine h.join (wc := wc) (w1 := w1) (fun k => b + k) (fun k q hk => (hg k (hc k q hk)).trans hk) hP1 hD1 hk1 hS1 fun t q ht => ?_
  by_cases hin : b ≤ t ∧ t < b + n
  · right
    have h3 : fin w b n w1 t = w1 (t - b) := if_pos hin
    rw [h3] at ht
    refine ⟨t - b, ht, fun t' k' p hp hn hk' he => ?_⟩
    by_cases hin' : b ≤ t' ∧ t' < b + n
    · have h4 : fin w b n w1 t' = w1 (t' - b) := if_pos hin'
      rw [h4] at hp
      have h5 := hD1.1 (t' - b) k' p p hp hk' rfl
      omega
    · have h4 : fin w b n w1 t' = w t' := if_neg hin'
      rw [h4] at hp
      exact absurd ⟨hp, fun k p' hk => by have := hc k p' hk; omega⟩ hn
  · left
    have h3 : fin w b n w1 t = w t := if_neg hin
    rw [h3] at ht
    exact ⟨ht, fun k p hk => by have := hc k p hk; omega⟩
theorem FI.joinR (h : FI D cl A H0 w H locs) {wc w1 : fw} (T : Nat → Bool) (hc : ∀ (k : Nat) (q : Nat × va_E), wc k = some q → T k = true) (hc1 : ∀ (k : Nat) (q : Nat × va_E), w1 k = some q → T k = true) (hg : ∀ k : Nat, T k = true → w k = wc k)
    (hP1 : fP D cl w1 H1) (hD1 : fD (fA wc H.size) w1) (hk1 : ∀ q : Nat, q < H.size → ¬ fA wc H.size q → H1[q]? = H[q]?) (hS1 : va_S A H0 H1 locs1) : FI D cl A H0 (fun t => if T t then w1 t else w t) H1 locs1 := by
  refine h.join (wc := wc) (w1 := w1) (fun k => k) (fun k q hk => (hg k (hc k q hk)).trans hk) hP1 hD1 hk1 hS1 fun t q ht => ?_
  by_cases hin : T t = true
  · right
    have ht' : w1 t = some q := by simpa [hin] using ht
    refine ⟨t, ht', fun t' k' p hp hn hk' he => ?_⟩
    by_cases hin' : T t' = true
    · have hp' : w1 t' = some p := by simpa [hin'] using hp
      have h5 := hD1.1 t' k' p p hp' hk' rfl
      omega
    · have hp' : w t' = some p := by simpa [hin'] using hp
      exact absurd ⟨hp', fun k p' hk => fun e => hin' (e ▸ hc k p' hk)⟩ hn
  · left
    have ht' : w t = some q := by simpa [hin] using ht
    exact ⟨ht', fun k p hk => fun e => hin (e ▸ hc k p hk)⟩
end FWA
section FWR
variable {p : Program} {l : Launch} {e : Env} {R : Room} {s : State} {m : MethodId} {args : Array Value} {below : List Frame} {meth : Method} {c : Code} {H : Heap} {locs : List Loc} {cells slots : Nat} {Q : State → Prop}
variable {cc : ByteArray} {pc : Nat} {ls : Array Slot} {rest : List Value} {D : va_G} {cl : List vw_C} {A : Nat → Prop} {a : Nat} {tys : List (ClassId × FieldType)} {w : fw} {H0 : Heap}
theorem f_at (hP : fP D cl w H) {t : Nat} {q : Nat × va_E} (hw : w t = some q) : va_P D cl [q] H := fun k x hk => by
  have hz : k < 1 := (List.getElem?_eq_some_iff.mp hk).1
  rw [show k = 0 by omega] at hk
  cases hk
  exact hP t _ hw
theorem f_recv {ci : Nat} {q : vw_C} {fs : List Value} (hK : va_K D cl tys s) (hP : fP D cl w H) (hc : cl[ci]? = some q) {t : Nat} (hw : w t = some (a, .inr (ci, fs))) : ∃ cell : Cell, H[a]? = some cell ∧ cell.vm.isStatics = false ∧ s.vm.findClass q.1 = some cell.cls := va_recv hK (f_at hP hw) (q0 := 0) hc rfl
theorem f_get (hexec : p.tables.exec = Jvm.exec) (hb : c.code = cc) {own ref C : String} {T : u_T} {N ci index : Nat} {Ts : List Cond} (hts : ∀ w ∈ Ts, w.before args s = true) (hin : ∀ w ∈ u_ws C T N, w ∈ Ts) (hown : s.vm.findClass own = some m.cls) (hK : va_K D cl tys s) (hP : fP D cl w H) (t : Nat) {fs : List Value} (he : w t = some (a, .inr (ci, fs))) (hc : cl[ci]? = some (C, T, N)) (k : Nat) (hk : k < N) (hlink : (Cond.fieldLink own index ref (T k).2.1 (T k).2.2.1).before args s = true) (hsame : ∀ x, s.fieldFound? (T k).1 (T k).2.1 (T k).2.2.1 = some x → s.fieldFound? ref (T k).2.1 (T k).2.2.1 = some x) {v : Value} (hv : fs[k]? = some v) (hdg : decode cc pc = .ok (.getfield index, 3))
    (kk : W p l e R s m args below meth c H locs cells slots Q (F0 m (pc + 3) ls (v :: rest))) : W p l e R s m args below meth c H locs cells slots Q (F0 m pc ls (.ref a :: rest)) :=
  va_get hexec hb hts hin hown hK (f_at hP he) 0 rfl hc k hk hlink hsame hv hdg kk
theorem f_put (hexec : p.tables.exec = Jvm.exec) (hb : c.code = cc) {own ref C : String} {T : u_T} {N ci index : Nat} {Ts : List Cond} (hts : ∀ w ∈ Ts, w.before args s = true) (hin : ∀ w ∈ u_ws C T N, w ∈ Ts) (ty0 : Nat → FieldType) (hty : ∀ k, k < N → parseFieldDescriptor (T k).2.2.1 = some (ty0 k)) (hnm : ∀ a, a < N → ∀ b, b < N → a ≠ b → (T a).2.1 ≠ (T b).2.1) (hown : s.vm.findClass own = some m.cls) (hK : va_K D cl tys s) (hI : FI D cl A H0 w H locs) (t : Nat) {fs : List Value} (he : w t = some (a, .inr (ci, fs))) (hc : cl[ci]? = some (C, T, N)) (k : Nat) (hk : k < N) (hlink : (Cond.fieldLink own index ref (T k).2.1 (T k).2.2.1).before args s = true) (hsame : ∀ x, s.fieldFound? (T k).1 (T k).2.1 (T k).2.2.1 = some x → s.fieldFound? ref (T k).2.1 (T k).2.2.1 = some x) (hfin : (T k).2.2.2 = false) {ty : FieldType} {v : Value} (hd : parseFieldDescriptor (T k).2.2.1 = some ty) (hn : narrow ty v = v) (hfit : fits ty v = true) (hl : k < fs.length)
    (hdg : decode cc pc = .ok (.putfield index, 3)) (kk : ∀ (H1 : Heap) (locs1 : List Loc), FI D cl A H0 (fup w t (a, .inr (ci, fs.set k v))) H1 locs1 → W p l e R s m args below meth c H1 locs1 cells slots Q (F0 m (pc + 3) ls rest)) : W p l e R s m args below meth c H locs cells slots Q (F0 m pc ls (v :: .ref a :: rest)) := by
  have hap := va_apart (own := own) hts hin ty0 hty hnm hK hc
  obtain ⟨r, h1, cell, q1, q2, q3, q4⟩ := hI.1 t _ he
  have hr : r = (C, T, N) := Option.some.inj (h1.symm.trans hc)
  subst hr
  obtain ⟨hS, hfc, kC, hkC, hkind⟩ := hK.1 ci _ hc
  obtain ⟨cf, kf, fi, f, hi, hsl⟩ := hS k hk
  have hlay := hts _ (hin _ (u_in_lay hk))
  unfold u_lay at hlay
  rw [if_neg (by rw [hfin]; decide)] at hlay
  have hst := (u_facts hfc hkC (u_lays hts hin hk) hi).1
  have h6 := u_store hfc hkC hkind hlay hi hd hn hfit
  refine W.putK hexec hb (f := f) ⟨hown, hlink, ⟨_, _, _, hsame _ hi⟩, hst⟩ (by rw [q2]; exact h6) q1 q3 (by rw [hsl]; exact k2_hasslot (q4 k hk)) rfl rfl hdg fun H' e1 e2 e3 => ?_
  rw [hsl] at e1 ⊢
  exact kk H' _ (hI.set he ⟨_, hc, t_OB.to (V := updV (vp_V fs) k v) ⟨_, e1, q2, q3, t_set q4 hap hk v⟩ (fun j _ => vp_updV_set hl v j)⟩ e2 e3)
theorem f_putF (hexec : p.tables.exec = Jvm.exec) (hb : c.code = cc) {own ref C : String} {T : u_T} {N ci index : Nat} {Ts : List Cond} (hts : ∀ w ∈ Ts, w.before args s = true) (hin : ∀ w ∈ u_ws C T N, w ∈ Ts) (ty0 : Nat → FieldType) (hty : ∀ k, k < N → parseFieldDescriptor (T k).2.2.1 = some (ty0 k)) (hnm : ∀ a, a < N → ∀ b, b < N → a ≠ b → (T a).2.1 ≠ (T b).2.1) (hown : s.vm.findClass own = some m.cls) (hK : va_K D cl tys s) (hI : FI D cl A H0 w H locs) (t : Nat) {fs : List Value} (he : w t = some (a, .inr (ci, fs))) (hc : cl[ci]? = some (C, T, N)) (k : Nat) (hk : k < N) (hlink : (Cond.fieldLink own index ref (T k).2.1 (T k).2.2.1).before args s = true) (hsame : ∀ x, s.fieldFound? (T k).1 (T k).2.1 (T k).2.2.1 = some x → s.fieldFound? ref (T k).2.1 (T k).2.2.1 = some x) (hfin : (T k).2.2.2 = true) (hin2 : meth.name = "<init>") (hdecl : (T k).1 = own) {ty : FieldType} {v : Value} (hd : parseFieldDescriptor (T k).2.2.1 = some ty) (hn : narrow ty v = v) (hfit : fits ty v = true) (hl : k < fs.length)
    (hdg : decode cc pc = .ok (.putfield index, 3)) (kk : ∀ (H1 : Heap) (locs1 : List Loc), FI D cl A H0 (fup w t (a, .inr (ci, fs.set k v))) H1 locs1 → W p l e R s m args below meth c H1 locs1 cells slots Q (F0 m (pc + 3) ls rest)) : W p l e R s m args below meth c H locs cells slots Q (F0 m pc ls (v :: .ref a :: rest)) := by
  have hap := va_apart (own := own) hts hin ty0 hty hnm hK hc
  obtain ⟨r, h1, cell, q1, q2, q3, q4⟩ := hI.1 t _ he
  have hr : r = (C, T, N) := Option.some.inj (h1.symm.trans hc)
  subst hr
  obtain ⟨hS, hfc, kC, hkC, hkind⟩ := hK.1 ci _ hc
  obtain ⟨cf, kf, fi, f, hi, hsl⟩ := hS k hk
  have hlay := hts _ (hin _ (u_in_lay hk))
  unfold u_lay at hlay
  rw [if_pos hfin] at hlay
  have hst := (u_facts hfc hkC (u_lays hts hin hk) hi).1
  have hcf : m.cls = cf := by
    obtain ⟨_, _, c', _, _, _, -, -, hf', -, -, -, hown2, -⟩ := Cond.laysFinal_spec hlay
    have e1 : c' = cf := by have := hi.symm.trans hf'; simp at this; exact this.1.symm
    rw [hdecl] at hown2
    rw [← e1]; exact Option.some.inj (hown.symm.trans hown2)
  have h6 := u_fits hfc hkC hkind (Or.inr hlay) hi hd hn hfit
  refine W.putFinK hexec hb hown hlink (hsame _ hi) hst hcf hin2 (by rw [q2]; exact h6) q1 q3 (by rw [hsl]; exact k2_hasslot (q4 k hk)) rfl rfl hdg fun H' e1 e2 e3 => ?_
  rw [hsl] at e1 ⊢
  exact kk H' _ (hI.set he ⟨_, hc, t_OB.to (V := updV (vp_V fs) k v) ⟨_, e1, q2, q3, t_set q4 hap hk v⟩ (fun j _ => vp_updV_set hl v j)⟩ e2 e3)
theorem f_ix {i : Int32} {j n : Nat} (hi : i = nI j) (hj : j < n) (hn : n ≤ 65536) : vp_in i n ∧ i.toNatClampNeg = j := by
  subst hi
  exact ⟨vp_in_nI hj (by omega), nI_clamp (by omega)⟩
theorem f_alen (hexec : p.tables.exec = Jvm.exec) (hb : c.code = cc) (hK : va_K D cl tys s) (hP : fP D cl w H) (t t0 : Nat) {cA : ClassId} {x : vp_A} {ty : FieldType} {v : Int32} (he : w t = some (a, .inl (cA, x))) (ht : tys[t0]? = some (cA, ty)) (hv : Int32.ofNat x.1 = v) (hdg : decode cc pc = .ok (.arraylength, 1))
    (kk : W p l e R s m args below meth c H locs cells slots Q (F0 m (pc + 1) ls (.int v :: rest))) : W p l e R s m args below meth c H locs cells slots Q (F0 m pc ls (.ref a :: rest)) :=
  va_alen hexec hb hK (f_at hP he) 0 t0 rfl ht hv hdg kk

theorem f_iald (hexec : p.tables.exec = Jvm.exec) (hb : c.code = cc) (hK : va_K D cl tys s) (hP : fP D cl w H) (t t0 : Nat) {cA : ClassId} {n : Nat} {f : Nat → Int32} (he : w t = some (a, .inl (cA, n, .inl f))) (ht : tys[t0]? = some (cA, .int)) (j : Nat) {i : Int32} (hi : i = nI j) (hj : j < n) (hn : n ≤ 65536) (hdg : decode cc pc = .ok (.iaload, 1))
    (kk : W p l e R s m args below meth c H locs cells slots Q (F0 m (pc + 1) ls (.int (f j) :: rest))) : W p l e R s m args below meth c H locs cells slots Q (F0 m pc ls (.int i :: .ref a :: rest)) := by
  obtain ⟨h1, h2⟩ := f_ix hi hj hn
  refine va_iald hexec hb hK (f_at hP he) 0 t0 rfl ht h1 hdg ?_
  rw [h2]
  exact kk
theorem f_bald (hexec : p.tables.exec = Jvm.exec) (hb : c.code = cc) (hK : va_K D cl tys s) (hP : fP D cl w H) (t t0 : Nat) {cA : ClassId} {n : Nat} {f : Nat → Int32} (he : w t = some (a, .inl (cA, n, .inl f))) (ht : tys[t0]? = some (cA, .byte)) (j : Nat) {i : Int32} (hi : i = nI j) (hj : j < n) (hn : n ≤ 65536) (hdg : decode cc pc = .ok (.baload, 1))
    (kk : W p l e R s m args below meth c H locs cells slots Q (F0 m (pc + 1) ls (.int (f j) :: rest))) : W p l e R s m args below meth c H locs cells slots Q (F0 m pc ls (.int i :: .ref a :: rest)) := by
  obtain ⟨h1, h2⟩ := f_ix hi hj hn
  refine va_bald hexec hb hK (f_at hP he) 0 t0 rfl ht h1 hdg ?_
  rw [h2]
  exact kk
theorem f_zald (hexec : p.tables.exec = Jvm.exec) (hb : c.code = cc) (hK : va_K D cl tys s) (hP : fP D cl w H) (t t0 : Nat) {cA : ClassId} {n : Nat} {f : Nat → Int32} (he : w t = some (a, .inl (cA, n, .inl f))) (ht : tys[t0]? = some (cA, .boolean)) (j : Nat) {i : Int32} (hi : i = nI j) (hj : j < n) (hn : n ≤ 65536) (hdg : decode cc pc = .ok (.baload, 1))
    (kk : W p l e R s m args below meth c H locs cells slots Q (F0 m (pc + 1) ls (.int (f j) :: rest))) : W p l e R s m args below meth c H locs cells slots Q (F0 m pc ls (.int i :: .ref a :: rest)) := by
  obtain ⟨h1, h2⟩ := f_ix hi hj hn
  refine va_zald hexec hb hK (f_at hP he) 0 t0 rfl ht h1 hdg ?_
  rw [h2]
  exact kk
theorem f_sald (hexec : p.tables.exec = Jvm.exec) (hb : c.code = cc) (hK : va_K D cl tys s) (hP : fP D cl w H) (t t0 : Nat) {cA : ClassId} {n : Nat} {f : Nat → Int32} (he : w t = some (a, .inl (cA, n, .inl f))) (ht : tys[t0]? = some (cA, .short)) (j : Nat) {i : Int32} (hi : i = nI j) (hj : j < n) (hn : n ≤ 65536) (hdg : decode cc pc = .ok (.saload, 1))
    (kk : W p l e R s m args below meth c H locs cells slots Q (F0 m (pc + 1) ls (.int (f j) :: rest))) : W p l e R s m args below meth c H locs cells slots Q (F0 m pc ls (.int i :: .ref a :: rest)) := by
  obtain ⟨h1, h2⟩ := f_ix hi hj hn
  refine va_sald hexec hb hK (f_at hP he) 0 t0 rfl ht h1 hdg ?_
  rw [h2]
  exact kk
theorem f_cald (hexec : p.tables.exec = Jvm.exec) (hb : c.code = cc) (hK : va_K D cl tys s) (hP : fP D cl w H) (t t0 : Nat) {cA : ClassId} {n : Nat} {f : Nat → Int32} (he : w t = some (a, .inl (cA, n, .inl f))) (ht : tys[t0]? = some (cA, .char)) (j : Nat) {i : Int32} (hi : i = nI j) (hj : j < n) (hn : n ≤ 65536) (hdg : decode cc pc = .ok (.caload, 1))
    (kk : W p l e R s m args below meth c H locs cells slots Q (F0 m (pc + 1) ls (.int (f j) :: rest))) : W p l e R s m args below meth c H locs cells slots Q (F0 m pc ls (.int i :: .ref a :: rest)) := by
  obtain ⟨h1, h2⟩ := f_ix hi hj hn
  refine va_cald hexec hb hK (f_at hP he) 0 t0 rfl ht h1 hdg ?_
  rw [h2]
  exact kk
theorem f_lald (hexec : p.tables.exec = Jvm.exec) (hb : c.code = cc) (hK : va_K D cl tys s) (hP : fP D cl w H) (t t0 : Nat) {cA : ClassId} {n : Nat} {f : Nat → Int64} (he : w t = some (a, .inl (cA, n, .inr (.inl f)))) (ht : tys[t0]? = some (cA, .long)) (j : Nat) {i : Int32} (hi : i = nI j) (hj : j < n) (hn : n ≤ 65536) (hdg : decode cc pc = .ok (.laload, 1))
    (kk : W p l e R s m args below meth c H locs cells slots Q (F0 m (pc + 1) ls (.long (f j) :: rest))) : W p l e R s m args below meth c H locs cells slots Q (F0 m pc ls (.int i :: .ref a :: rest)) := by
  obtain ⟨h1, h2⟩ := f_ix hi hj hn
  refine va_lald hexec hb hK (f_at hP he) 0 t0 rfl ht h1 hdg ?_
  rw [h2]
  exact kk
theorem f_iast (hexec : p.tables.exec = Jvm.exec) (hb : c.code = cc) (hK : va_K D cl tys s) (hI : FI D cl A H0 w H locs) (t t0 : Nat) {cA : ClassId} {n : Nat} {f : Nat → Int32} (he : w t = some (a, .inl (cA, n, .inl f))) (ht : tys[t0]? = some (cA, .int)) (j : Nat) {i : Int32} {x : Int32} (hi : i = nI j) (hj : j < n) (hn : n ≤ 65536) (hdg : decode cc pc = .ok (.iastore, 1))
    (kk : ∀ (H1 : Heap) (locs1 : List Loc), FI D cl A H0 (fup w t (a, .inl (cA, n, .inl (upd f j x)))) H1 locs1 → W p l e R s m args below meth c H1 locs1 cells slots Q (F0 m (pc + 1) ls rest)) : W p l e R s m args below meth c H locs cells slots Q (F0 m pc ls (.int x :: .int i :: .ref a :: rest)) := by
  obtain ⟨h1, h2⟩ := f_ix hi hj hn
  refine W.iast hexec hb (hI.1 t _ he) ((hK.2 t0 _ ht).1 n (fun j => .int (f j))) (fun q => by cases q) (by show ¬ (i < 0 ∨ (arrV _ _ _).slots.size ≤ _); rw [arrV_size]; exact h1) rfl rfl hdg fun H1 e z oq => ?_
  refine kk H1 _ (hI.set he ?_ z oq)
  show H1[a]? = some (vp_cell _ _)
  rw [e]
  rw [vp_cell_i, vp_cell_i, arrV_store, h2]
  congr 2
  funext q
  by_cases hq : q = j
  · subst hq
    simp [updV, upd, vp_nar]
    try rfl
  · simp [updV, upd, hq]
theorem f_bast (hexec : p.tables.exec = Jvm.exec) (hb : c.code = cc) (hK : va_K D cl tys s) (hI : FI D cl A H0 w H locs) (t t0 : Nat) {cA : ClassId} {n : Nat} {f : Nat → Int32} (he : w t = some (a, .inl (cA, n, .inl f))) (ht : tys[t0]? = some (cA, .byte)) (j : Nat) {i : Int32} {x : Int32} (hi : i = nI j) (hj : j < n) (hn : n ≤ 65536) (hdg : decode cc pc = .ok (.bastore, 1))
    (kk : ∀ (H1 : Heap) (locs1 : List Loc), FI D cl A H0 (fup w t (a, .inl (cA, n, .inl (upd f j (vp_nar .byte x))))) H1 locs1 → W p l e R s m args below meth c H1 locs1 cells slots Q (F0 m (pc + 1) ls rest)) : W p l e R s m args below meth c H locs cells slots Q (F0 m pc ls (.int x :: .int i :: .ref a :: rest)) := by
  obtain ⟨h1, h2⟩ := f_ix hi hj hn
  refine W.bast hexec hb (hI.1 t _ he) ((hK.2 t0 _ ht).1 n (fun j => .int (f j))) (fun q => by cases q) (by show ¬ (i < 0 ∨ (arrV _ _ _).slots.size ≤ _); rw [arrV_size]; exact h1) rfl rfl hdg fun H1 e z oq => ?_
  refine kk H1 _ (hI.set he ?_ z oq)
  show H1[a]? = some (vp_cell _ _)
  rw [e]
  rw [vp_cell_i, vp_cell_i, arrV_store, h2]
  congr 2
  funext q
  by_cases hq : q = j
  · subst hq
    simp [updV, upd, vp_nar]
    try rfl
  · simp [updV, upd, hq]
theorem f_zast (hexec : p.tables.exec = Jvm.exec) (hb : c.code = cc) (hK : va_K D cl tys s) (hI : FI D cl A H0 w H locs) (t t0 : Nat) {cA : ClassId} {n : Nat} {f : Nat → Int32} (he : w t = some (a, .inl (cA, n, .inl f))) (ht : tys[t0]? = some (cA, .boolean)) (j : Nat) {i : Int32} {x : Int32} (hi : i = nI j) (hj : j < n) (hn : n ≤ 65536) (hdg : decode cc pc = .ok (.bastore, 1))
    (kk : ∀ (H1 : Heap) (locs1 : List Loc), FI D cl A H0 (fup w t (a, .inl (cA, n, .inl (upd f j (vp_nar .boolean x))))) H1 locs1 → W p l e R s m args below meth c H1 locs1 cells slots Q (F0 m (pc + 1) ls rest)) : W p l e R s m args below meth c H locs cells slots Q (F0 m pc ls (.int x :: .int i :: .ref a :: rest)) := by
  obtain ⟨h1, h2⟩ := f_ix hi hj hn
  refine W.zast hexec hb (hI.1 t _ he) ((hK.2 t0 _ ht).1 n (fun j => .int (f j))) (fun q => by cases q) (by show ¬ (i < 0 ∨ (arrV _ _ _).slots.size ≤ _); rw [arrV_size]; exact h1) rfl rfl hdg fun H1 e z oq => ?_
  refine kk H1 _ (hI.set he ?_ z oq)
  show H1[a]? = some (vp_cell _ _)
  rw [e]
  rw [vp_cell_i, vp_cell_i, arrV_store, h2]
  congr 2
  funext q
  by_cases hq : q = j
  · subst hq
    simp [updV, upd, vp_nar]
    try rfl
  · simp [updV, upd, hq]
theorem f_sast (hexec : p.tables.exec = Jvm.exec) (hb : c.code = cc) (hK : va_K D cl tys s) (hI : FI D cl A H0 w H locs) (t t0 : Nat) {cA : ClassId} {n : Nat} {f : Nat → Int32} (he : w t = some (a, .inl (cA, n, .inl f))) (ht : tys[t0]? = some (cA, .short)) (j : Nat) {i : Int32} {x : Int32} (hi : i = nI j) (hj : j < n) (hn : n ≤ 65536) (hdg : decode cc pc = .ok (.sastore, 1))
    (kk : ∀ (H1 : Heap) (locs1 : List Loc), FI D cl A H0 (fup w t (a, .inl (cA, n, .inl (upd f j (vp_nar .short x))))) H1 locs1 → W p l e R s m args below meth c H1 locs1 cells slots Q (F0 m (pc + 1) ls rest)) : W p l e R s m args below meth c H locs cells slots Q (F0 m pc ls (.int x :: .int i :: .ref a :: rest)) := by
  obtain ⟨h1, h2⟩ := f_ix hi hj hn
  refine W.sast hexec hb (hI.1 t _ he) ((hK.2 t0 _ ht).1 n (fun j => .int (f j))) (fun q => by cases q) (by show ¬ (i < 0 ∨ (arrV _ _ _).slots.size ≤ _); rw [arrV_size]; exact h1) rfl rfl hdg fun H1 e z oq => ?_
  refine kk H1 _ (hI.set he ?_ z oq)
  show H1[a]? = some (vp_cell _ _)
  rw [e]
  rw [vp_cell_i, vp_cell_i, arrV_store, h2]
  congr 2
  funext q
  by_cases hq : q = j
  · subst hq
    simp [updV, upd, vp_nar]
    try rfl
  · simp [updV, upd, hq]
theorem f_cast (hexec : p.tables.exec = Jvm.exec) (hb : c.code = cc) (hK : va_K D cl tys s) (hI : FI D cl A H0 w H locs) (t t0 : Nat) {cA : ClassId} {n : Nat} {f : Nat → Int32} (he : w t = some (a, .inl (cA, n, .inl f))) (ht : tys[t0]? = some (cA, .char)) (j : Nat) {i : Int32} {x : Int32} (hi : i = nI j) (hj : j < n) (hn : n ≤ 65536) (hdg : decode cc pc = .ok (.castore, 1))
    (kk : ∀ (H1 : Heap) (locs1 : List Loc), FI D cl A H0 (fup w t (a, .inl (cA, n, .inl (upd f j (vp_nar .char x))))) H1 locs1 → W p l e R s m args below meth c H1 locs1 cells slots Q (F0 m (pc + 1) ls rest)) : W p l e R s m args below meth c H locs cells slots Q (F0 m pc ls (.int x :: .int i :: .ref a :: rest)) := by
  obtain ⟨h1, h2⟩ := f_ix hi hj hn
  refine W.cast hexec hb (hI.1 t _ he) ((hK.2 t0 _ ht).1 n (fun j => .int (f j))) (fun q => by cases q) (by show ¬ (i < 0 ∨ (arrV _ _ _).slots.size ≤ _); rw [arrV_size]; exact h1) rfl rfl hdg fun H1 e z oq => ?_
  refine kk H1 _ (hI.set he ?_ z oq)
  show H1[a]? = some (vp_cell _ _)
  rw [e]
  rw [vp_cell_i, vp_cell_i, arrV_store, h2]
  congr 2
  funext q
  by_cases hq : q = j
  · subst hq
    simp [updV, upd, vp_nar]
    try rfl
  · simp [updV, upd, hq]
theorem f_last (hexec : p.tables.exec = Jvm.exec) (hb : c.code = cc) (hK : va_K D cl tys s) (hI : FI D cl A H0 w H locs) (t t0 : Nat) {cA : ClassId} {n : Nat} {f : Nat → Int64} (he : w t = some (a, .inl (cA, n, .inr (.inl f)))) (ht : tys[t0]? = some (cA, .long)) (j : Nat) {i : Int32} {x : Int64} (hi : i = nI j) (hj : j < n) (hn : n ≤ 65536) (hdg : decode cc pc = .ok (.lastore, 1))
    (kk : ∀ (H1 : Heap) (locs1 : List Loc), FI D cl A H0 (fup w t (a, .inl (cA, n, .inr (.inl (vp_updL f j x))))) H1 locs1 → W p l e R s m args below meth c H1 locs1 cells slots Q (F0 m (pc + 1) ls rest)) : W p l e R s m args below meth c H locs cells slots Q (F0 m pc ls (.long x :: .int i :: .ref a :: rest)) := by
  obtain ⟨h1, h2⟩ := f_ix hi hj hn
  refine W.last hexec hb (hI.1 t _ he) ((hK.2 t0 _ ht).1 n (fun j => .long (f j))) (fun q => by cases q) (by show ¬ (i < 0 ∨ (arrV _ _ _).slots.size ≤ _); rw [arrV_size]; exact h1) rfl rfl hdg fun H1 e z oq => ?_
  refine kk H1 _ (hI.set he ?_ z oq)
  show H1[a]? = some (vp_cell _ _)
  rw [e]
  rw [vp_cell_l, vp_cell_l, arrV_store, h2]
  congr 2
  funext q
  by_cases hq : q = j
  · subst hq
    simp [updV, vp_updL, vp_nar]
    try rfl
  · simp [updV, vp_updL, hq]
theorem f_aldq (hexec : p.tables.exec = Jvm.exec) (hb : c.code = cc) (hK : va_K D cl tys s) (hP : fP D cl w H) (t t0 : Nat) {cA : ClassId} {C : String} {n : Nat} {f : Nat → Option Nat} (he : w t = some (a, .inl (cA, n, .inr (.inr (.inr (.inr f)))))) (ht : tys[t0]? = some (cA, .object C)) (j : Nat) {i : Int32} {v : Value} (hi : i = nI j) (hj : j < n) (hn : n ≤ 65536) (hv : va_rf (f j) = v) (hdg : decode cc pc = .ok (.aaload, 1))
    (kk : W p l e R s m args below meth c H locs cells slots Q (F0 m (pc + 1) ls (v :: rest))) : W p l e R s m args below meth c H locs cells slots Q (F0 m pc ls (.int i :: .ref a :: rest)) := by
  obtain ⟨h1, h2⟩ := f_ix hi hj hn
  refine va_aldq hexec hb hK (f_at hP he) 0 t0 rfl ht h1 hdg ?_
  rw [h2, hv]
  exact kk
theorem f_aldA (hexec : p.tables.exec = Jvm.exec) (hb : c.code = cc) (hK : va_K D cl tys s) (hP : fP D cl w H) (t t0 : Nat) {cA : ClassId} {ty : FieldType} {n : Nat} {f : Nat → Option Nat} (he : w t = some (a, .inl (cA, n, .inr (.inr (.inr (.inr f)))))) (ht : tys[t0]? = some (cA, .array ty)) (j : Nat) {i : Int32} {v : Value} (hi : i = nI j) (hj : j < n) (hn : n ≤ 65536) (hv : va_rf (f j) = v) (hdg : decode cc pc = .ok (.aaload, 1))
    (kk : W p l e R s m args below meth c H locs cells slots Q (F0 m (pc + 1) ls (v :: rest))) : W p l e R s m args below meth c H locs cells slots Q (F0 m pc ls (.int i :: .ref a :: rest)) := by
  obtain ⟨h1, h2⟩ := f_ix hi hj hn
  subst hv
  have hlt : i.toNatClampNeg < n := by rw [h2]; exact hj
  refine W.aald (v := va_rf (f j)) (ty := .array ty) hexec hb (hP t _ he) ((hK.2 t0 _ ht).1 n (fun j => va_rf (f j))) rfl (fun q => by cases q) (by show ¬ (i < 0 ∨ (arrV _ _ _).slots.size ≤ _); rw [arrV_size]; exact h1) (by show (arrV _ _ _).slots[_]? = _; rw [arrV_read _ _ hlt, h2]) rfl rfl hdg kk
theorem f_astq (hexec : p.tables.exec = Jvm.exec) (hb : c.code = cc) (hK : va_K D cl tys s) (hI : FI D cl A H0 w H locs) (t t0 tv ci : Nat) {cA : ClassId} {r : vw_C} {n v : Nat} {vs : List Value} {f : Nat → Option Nat} {E : String} (he : w t = some (a, .inl (cA, n, .inr (.inr (.inr (.inr f)))))) (ht : tys[t0]? = some (cA, .object E)) (hv : w tv = some (v, .inr (ci, vs))) (hc : cl[ci]? = some r) (hca : r.1 = E ∨ va_Nw (.castable r.1 E) s) (j : Nat) {i : Int32} (hi : i = nI j) (hj : j < n) (hn : n ≤ 65536) (hdg : decode cc pc = .ok (.aastore, 1))
    (kk : ∀ (H1 : Heap) (locs1 : List Loc), FI D cl A H0 (fup w t (a, .inl (cA, n, .inr (.inr (.inr (.inr (va_up f j (some v)))))))) H1 locs1 → W p l e R s m args below meth c H1 locs1 cells slots Q (F0 m (pc + 1) ls rest)) : W p l e R s m args below meth c H locs cells slots Q (F0 m pc ls (.ref v :: .int i :: .ref a :: rest)) := by
  obtain ⟨h1, h2⟩ := f_ix hi hj hn
  have hlt : i.toNatClampNeg < n := by rw [h2]; exact hj
  have h0 : ¬ i < 0 := fun q => h1 (Or.inl q)
  obtain ⟨r', hr', cellV, g1, g2, g3, -⟩ := hI.1 tv _ hv
  have hcls := (hK.1 ci r hc).2
  obtain ⟨kA, comp, k1, k2, k3, -⟩ := (hK.2 t0 _ ht).2
  obtain ⟨kC, hkC, -⟩ := hcls.2
  obtain ⟨kE, hkE, -⟩ := Vm.findClass_spec k3
  have hasg : s.vm.assignable (D.1 ci) comp = true := by
    rcases hca with h | h
    · rw [← h] at k3
      have hcomp : comp = D.1 ci := Option.some.inj (k3.symm.trans hcls.1)
      rw [hcomp]
      exact va_assign hcls
    · exact vb_asgC h comp _ k3 hcls.1
  refine W.aast hexec hb (hI.1 t _ he) (fun q h => by cases h) (fun h => by cases h) k1 k2 rfl hkE ⟨h0, by show _ < (arrV _ _ _).slots.size; rw [arrV_size]; exact hlt⟩ g1 (fun q h => by rw [g3] at h; cases h) (by rw [g2]; exact hkC) (by rw [g2]; exact hasg) rfl rfl hdg fun H1 e z oq => ?_
  refine kk H1 _ (hI.set he ?_ z oq)
  show H1[a]? = some (vp_cell _ _)
  rw [e]
  rw [vp_cell_q, vp_cell_q, arrV_store, h2]
  congr 2
  funext q
  by_cases hq : q = j
  · subst hq
    simp [updV, va_up, va_rf]
  · simp [updV, va_up, hq]
theorem f_new {c0 : Code} (hexec : p.tables.exec = Jvm.exec) (hb : c0.code = cc) {own C : String} {T : u_T} {N ci index : Nat} {Ts : List Cond} (hts : ∀ w ∈ Ts, w.before args s = true) (hin : ∀ w ∈ u_ws C T N, w ∈ Ts) (ty : Nat → FieldType) (hty : ∀ k, k < N → parseFieldDescriptor (T k).2.2.1 = some (ty k)) (hown : s.vm.findClass own = some m.cls) (hcl : (Cond.classLink own index C).before args s = true) (hinst : (Cond.instantiable C N).before args s = true) (hini : (Cond.initialized C).before args s = true)
    (hK : va_K D cl tys s) (hI : FI D cl A H0 w H locs) (hc : cl[ci]? = some (C, T, N)) (t : Nat) (hw : w t = none) {fs : List Value} (hfs : ∀ j, j < N → defaultValue (ty j) = vp_V fs j) (hcells : cells + 1 ≤ R.cells) (hslots : slots + N ≤ R.slots) (hdg : decode cc pc = .ok (.new index, 3))
    (kk : ∀ (q : Nat) (H1 : Heap), q = H.size → H1.size = H.size + 1 → FI D cl A H0 (fup w t (q, .inr (ci, fs))) H1 locs →
      W p l e R s m args below meth c0 H1 locs (cells + 1) (slots + N) Q (F0 m (pc + 3) ls (.ref q :: rest))) : W p l e R s m args below meth c0 H locs cells slots Q (F0 m pc ls rest) := by
  have hKn := hK.1 ci _ hc
  refine W.newcK hexec hb hown hcl hinst hini rfl hdg hcells hslots hKn.2.1 rfl fun H1 kC hkC e1 z1 o1 => ?_
  exact kk H.size H1 rfl z1 (hI.push hw ⟨_, hc, (u_born ty hts hin hKn hkC e1 hty).to hfs⟩ z1 o1)
theorem f_newa (hexec : p.tables.exec = Jvm.exec) (hb : c.code = cc) {atype : ArrayType} (harr : (Cond.arrayClass (newarray.typeOf atype)).before args s = true) {ty : FieldType} (hty : newarray.typeOf atype = ty) (hK : va_K D cl tys s) (t0 : Nat) {cA0 : ClassId} (ht0 : tys[t0]? = some (cA0, ty)) (hI : FI D cl A H0 w H locs) (t : Nat) (hw : w t = none)
    {n : Int32} {N' : Nat} {a0 : vp_A} (ha : ∀ cA : ClassId, vp_cell cA a0 = arrV cA N' (fun _ => defaultValue ty)) (hn : ¬ n < 0) (hN : n.toNatClampNeg = N') (hbytes : N' * componentBytes ty ≤ 536870912) (hcells : cells + 1 ≤ R.cells) (hslots : slots + N' ≤ R.slots) (hdg : decode cc pc = .ok (.newarray atype, 2))
    (kk : ∀ (q : Nat) (H1 : Heap), q = H.size → H1.size = H.size + 1 → FI D cl A H0 (fup w t (q, .inl (cA0, a0))) H1 locs →
      W p l e R s m args below meth c H1 locs (cells + 1) (slots + N') Q (F0 m (pc + 2) ls (.ref q :: rest))) : W p l e R s m args below meth c H locs cells slots Q (F0 m pc ls (.int n :: rest)) := by
  subst hty
  refine va_newaK hexec hb harr rfl hdg rfl hn hN hbytes hcells hslots rfl fun H1 cA e1 z1 o1 hAr hNm => ?_
  have hcA : cA = cA0 := by
    have h := (hK.2 t0 _ ht0).2
    have h2 : s.vm.findClass ("[" ++ (newarray.typeOf atype).toString) = some cA0 := by cases atype <;> exact h
    exact Option.some.inj (hNm.symm.trans h2)
  subst hcA
  refine kk H.size H1 rfl z1 (hI.push hw ?_ z1 o1)
  show H1[H.size]? = some (vp_cell _ _)
  rw [ha]
  exact e1
end FWR
