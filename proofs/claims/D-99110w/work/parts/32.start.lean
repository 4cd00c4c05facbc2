/-! THE START: the law's entry out of the plain theorem -/
/-- two final fields of one name, declared in two classes -/
theorem final_apart {args : Array Value} {s : State} {C O f d O' f' d' : String} (h : (Cond.laysFinal C O f d).before args s = true) (h' : (Cond.laysFinal C O' f' d').before args s = true) {i i' : Nat} (hi : SlotIs s O f d i) (hi' : SlotIs s O' f' d' i') (hne : O ≠ O') : i ≠ i' := by
  obtain ⟨cf, kf, fi, fd, a1, a2⟩ := hi
  obtain ⟨cf', kf', fi', fd', b1, b2⟩ := hi'
  obtain ⟨c, k, c', k', j, g, r1, r2, r3, -, -, -, r4, -, e, r5, r6, -⟩ := Cond.laysFinal_spec h
  obtain ⟨c0, k0, c0', k0', j0, g0, q1, q2, q3, -, -, -, q4, -, e0, q5, q6, -⟩ := Cond.laysFinal_spec h'
  cases a1.symm.trans r3
  cases b1.symm.trans q3
  cases r1.symm.trans q1
  intro he
  rw [← a2, ← b2] at he
  rw [he] at r5
  cases r5.symm.trans q5
  obtain ⟨x, x1, x2⟩ := Vm.findClass_spec r4
  obtain ⟨z, z1, z2⟩ := Vm.findClass_spec q4
  have n1 : kf.name = O := by
    rw [← x2]
    exact congrArg Class.name (Option.some.inj ((State.fieldFound?_class r3).symm.trans x1))
  have n2 : kf'.name = O' := by
    rw [← z2]
    exact congrArg Class.name (Option.some.inj ((State.fieldFound?_class q3).symm.trans z1))
  exact hne (n1.symm.trans (r6.symm.trans (q6.trans n2)))
theorem start_cls {s : State} {args : Array Value} (hts : ∀ w ∈ lw_all, w.before args s = true) : ∃ D : va_G, ∀ (c : Nat) (q : vw_C), mCl[c]? = some q → u_Kn s q.1 q.2.1 q.2.2 (D.1 c) (D.2 c) := by
  have h : ∀ c : Nat, ∃ r : ClassId × (Nat → Nat), ∀ q : vw_C, mCl[c]? = some q → u_Kn s q.1 q.2.1 q.2.2 r.1 r.2 := by
    intro c
    have mk : ∀ {C : String} {T : u_T} {N n : Nat}, (∀ w ∈ u_ws C T N, w ∈ lw_all) → (Cond.instantiable C n) ∈ lw_all → mCl[c]? = some (C, T, N) → ∃ r : ClassId × (Nat → Nat), ∀ q : vw_C, mCl[c]? = some q → u_Kn s q.1 q.2.1 q.2.2 r.1 r.2 := by
      intro C T N n hin hi he
      obtain ⟨cC, iS, hu⟩ := u_known hts hin (hts _ hi)
      refine ⟨(cC, iS), fun q hq => ?_⟩
      cases he.symm.trans hq
      exact hu
    match c with
    | 0 => exact mk in_X0 q143 rfl
    | 1 => exact mk in_X2 q151 rfl
    | 2 => exact mk in_X3 q194 rfl
    | 3 => exact mk in_X4 q200 rfl
    | 4 => exact mk in_X5 q280 rfl
    | 5 => exact mk in_X6 q1259 rfl
    | 6 => exact mk in_X7 q420 rfl
    | 7 => exact mk in_X9 q562 rfl
    | 8 => exact mk in_X10 q584 rfl
    | 9 => exact mk in_X11 q602 rfl
    | 10 => exact mk in_X13 q631 rfl
    | 11 => exact mk in_X14 q641 rfl
    | 12 => exact mk in_X15 q654 rfl
    | 13 => exact mk in_X17 q689 rfl
    | 14 => exact mk in_X18 q823 rfl
    | n + 15 => exact ⟨(0, fun _ => 0), fun q hq => by cases hq⟩
  obtain ⟨r, hr⟩ := Classical.axiomOfChoice h
  exact ⟨(fun c => (r c).1, fun c => (r c).2), hr⟩
theorem start_apart {s : State} {args : Array Value} {D : va_G} {tys : List (ClassId × FieldType)} (hts : ∀ w ∈ lw_all, w.before args s = true) (hK : va_K D mCl tys s) : xApart D := by
  intro tg q hq
  match tg with
  | 0 => cases hq; exact va_apart (own := RX0) hts in_X0 tyX0 tyX0_ok nmX0 hK rfl
  | 1 => cases hq; exact va_apart (own := RX0) hts in_X2 tyX2 tyX2_ok nmX2 hK rfl
  | 2 => cases hq; exact va_apart (own := RX0) hts in_X3 tyX3 tyX3_ok nmX3 hK rfl
  | 3 => cases hq; exact va_apart (own := RX0) hts in_X4 tyX4 tyX4_ok nmX4 hK rfl
  | 4 => cases hq; exact va_apart (own := RX0) hts in_X5 tyX5 tyX5_ok nmX5 hK rfl
  | 5 => cases hq; exact va_apart (own := RX0) hts in_X6 tyX6 tyX6_ok nmX6 hK rfl
  | 6 => cases hq; exact va_apart (own := RX0) hts in_X7 tyX7 tyX7_ok nmX7 hK rfl
  | 7 => cases hq; exact va_apart (own := RX0) hts in_X9 tyX9 tyX9_ok nmX9 hK rfl
  | 8 => cases hq; exact va_apart (own := RX0) hts in_X10 tyX10 tyX10_ok nmX10 hK rfl
  | 9 => cases hq; exact va_apart (own := RX0) hts in_X11 tyX11 tyX11_ok nmX11 hK rfl
  | 10 => cases hq; exact va_apart (own := RX0) hts in_X13 tyX13 tyX13_ok nmX13 hK rfl
  | 11 => cases hq; exact va_apart (own := RX0) hts in_X14 tyX14 tyX14_ok nmX14 hK rfl
  | 12 => cases hq; exact va_apart (own := RX0) hts in_X15 tyX15 tyX15_ok nmX15 hK rfl
  | 13 =>
    cases hq
    obtain ⟨hS, -⟩ := hK.1 13 _ rfl
    have hfin : ∀ k, k < 8 → (TX17 k).2.2.2 = true → (Cond.laysFinal RX17 (TX17 k).1 (TX17 k).2.1 (TX17 k).2.2.1).before args s = true := by
      intro k hk h
      have h1 := hts _ (in_X17 _ (u_in_lay hk))
      unfold u_lay at h1
      rwa [if_pos h] at h1
    intro x y hx hy hne
    by_cases hn : (TX17 x).2.1 = (TX17 y).2.1
    · have hfix : ∀ x, x < 8 → ∀ y, y < 8 → x = y ∨ (TX17 x).2.1 ≠ (TX17 y).2.1 ∨ ((TX17 x).2.2.2 = true ∧ (TX17 y).2.2.2 = true ∧ (TX17 x).1 ≠ (TX17 y).1) := by decide +kernel
      obtain ⟨f1, f2, f3⟩ := ((hfix x hx y hy).resolve_left hne).resolve_left (fun h => h hn)
      exact final_apart (hfin x hx f1) (hfin y hy f2) (hS x hx) (hS y hy) f3
    · obtain ⟨_, _, _, fa, hia, ea⟩ := hS x hx
      obtain ⟨_, _, _, fb, hib, eb⟩ := hS y hy
      rw [← ea, ← eb]
      refine u_apart (u_lays hts in_X17 hx) (u_lays hts in_X17 hy) hia hib ?_
      rw [(State.fieldFound?_type hia (tyX17_ok x hx)).1, (State.fieldFound?_type hib (tyX17_ok y hy)).1]
      exact hn
  | 14 =>
    cases hq
    obtain ⟨hS, -⟩ := hK.1 14 _ rfl
    have hfin : ∀ k, k < 9 → (TX18 k).2.2.2 = true → (Cond.laysFinal RX18 (TX18 k).1 (TX18 k).2.1 (TX18 k).2.2.1).before args s = true := by
      intro k hk h
      have h1 := hts _ (in_X18 _ (u_in_lay hk))
      unfold u_lay at h1
      rwa [if_pos h] at h1
    intro x y hx hy hne
    by_cases hn : (TX18 x).2.1 = (TX18 y).2.1
    · have hfix : ∀ x, x < 9 → ∀ y, y < 9 → x = y ∨ (TX18 x).2.1 ≠ (TX18 y).2.1 ∨ ((TX18 x).2.2.2 = true ∧ (TX18 y).2.2.2 = true ∧ (TX18 x).1 ≠ (TX18 y).1) := by decide +kernel
      obtain ⟨f1, f2, f3⟩ := ((hfix x hx y hy).resolve_left hne).resolve_left (fun h => h hn)
      exact final_apart (hfin x hx f1) (hfin y hy f2) (hS x hx) (hS y hy) f3
    · obtain ⟨_, _, _, fa, hia, ea⟩ := hS x hx
      obtain ⟨_, _, _, fb, hib, eb⟩ := hS y hy
      rw [← ea, ← eb]
      refine u_apart (u_lays hts in_X18 hx) (u_lays hts in_X18 hy) hia hib ?_
      rw [(State.fieldFound?_type hia (tyX18_ok x hx)).1, (State.fieldFound?_type hib (tyX18_ok y hy)).1]
      exact hn
  | n + 15 => cases hq
/-- the array classes -/
theorem start_arrC {s : State} {args : Array Value} {t : FieldType} (ht : ∀ C, t ≠ .object C) (h : (Cond.arrayClass t).before args s = true) : ∃ c : ClassId, ArrOfT s c t ∧ va_RA s c t := by
  obtain ⟨c, k, comp, h1, h2, h3⟩ := Cond.arrayClass_spec h
  refine ⟨c, fun N z => ⟨(fun k h => by cases h), k, h2, comp, h3⟩, ?_⟩
  cases t with
  | object C => exact absurd rfl (ht C)
  | _ => exact h1
theorem start_arrO {s : State} {args : Array Value} {C : String} (h : (Cond.arrayOver (.object C)).before args s = true) : ∃ c : ClassId, ArrOfT s c (.object C) ∧ va_RA s c (.object C) := by
  obtain ⟨comp, c, k, h1, h2, h3, h4, h5⟩ := Cond.arrayOver_spec h
  exact ⟨c, fun N z => ⟨(fun k h => by cases h), k, h3, comp, h4⟩, k, comp, h3, h4, h1, h5⟩
theorem start_arrA {s : State} {args : Array Value} {t : FieldType} (h : (Cond.arrayOver (.array t)).before args s = true) : ∃ c : ClassId, ArrOfT s c (.array t) ∧ va_RA s c (.array t) := by
  obtain ⟨comp, c, k, h1, h2, h3, h4, h5⟩ := arrayOverA_spec h
  exact ⟨c, fun N z => ⟨(fun k h => by cases h), k, h3, comp, h4⟩, h5⟩
theorem start_ty {s : State} {args : Array Value} (hts : ∀ w ∈ lw_tbl, w.before args s = true) : ∃ tA : Nat → ClassId, ∀ (k : Nat) (q : ClassId × FieldType), (mTys tA)[k]? = some q → ArrOfT s q.1 q.2 ∧ va_RA s q.1 q.2 := by
  obtain ⟨c0, h0⟩ := start_arrC (t := .int) (fun C h => by cases h) (hts _ (lw_all_tbl q192))
  obtain ⟨c1, h1⟩ := start_arrC (t := .byte) (fun C h => by cases h) (hts _ (lw_all_tbl q307))
  obtain ⟨c2, h2⟩ := start_arrA (hts _ q206)
  obtain ⟨c3, h3⟩ := start_arrO (hts _ q286)
  obtain ⟨c4, h4⟩ := start_arrO (hts _ q288)
  refine ⟨fun k => match k with | 0 => c0 | 1 => c1 | 2 => c2 | 3 => c3 | _ => c4, fun k q hq => ?_⟩
  match k with
  | 0 => cases hq; exact h0
  | 1 => cases hq; exact h1
  | 2 => cases hq; exact h2
  | 3 => cases hq; exact h3
  | 4 => cases hq; exact h4
  | n + 5 => cases hq
def tm_ (i : Nat) : Term := Term.string "OneCoin$Reader" (if i = 0 then 75 else 129)
theorem two_ {P : Nat → Prop} (h0 : P 0) (h1 : P 1) : ∀ i : Nat, i < 2 → P i := by
  intro i hi
  match i with
  | 0 => exact h0
  | 1 => exact h1
theorem start_S {s : State} {b B : Nat} (hts : ∀ w ∈ lw_tbl, w.before #[Value.ref b] s = true) (hgv : (Jvm.Cond.and given_1 narrow_1).before #[Value.ref b] s = true) (hB : s.heap.size = B + 1) : ∃ adK adV : Nat → Nat, xS B (s.heap, adK, adV) s := by
  have hs := flat_of_before _ hgv
  have hA : ∀ a : Nat, a < s.heap.size → ¬ (fun q => B < q) a := fun a h1 h2 => by
    have h2 : B < a := h2
    omega
  obtain ⟨adK, adV, h1, h2⟩ := vk_Sof (args := #[Value.ref b]) (s := s) (N := 2) (tm := tm_) (len := sLen) (byt := sByt) (A := fun q => B < q) (two_ (by decide) (by decide)) (two_ (hs _ (by decide +kernel)) (hs _ (by decide +kernel))) (two_ (hs _ (by decide +kernel)) (hs _ (by decide +kernel))) (two_ (hs _ (by decide +kernel)) (hs _ (by decide +kernel))) (two_ (hs _ (by decide +kernel)) (hs _ (by decide +kernel)))
    (two_ (fun j hj => by
      match j, hj with
      | 0, _ => exact hs _ (by decide +kernel)
      | 1, _ => exact hs _ (by decide +kernel)
      | 2, _ => exact hs _ (by decide +kernel)
      | 3, _ => exact hs _ (by decide +kernel)
      | 4, _ => exact hs _ (by decide +kernel)
      | 5, _ => exact hs _ (by decide +kernel)
      | 6, _ => exact hs _ (by decide +kernel)
      | 7, _ => exact hs _ (by decide +kernel)
      | n + 8, h => exact absurd h (Nat.not_lt.mpr (Nat.le_add_left 8 n))) (fun j hj => by
      match j, hj with
      | 0, _ => exact hs _ (by decide +kernel)
      | 1, _ => exact hs _ (by decide +kernel)
      | 2, _ => exact hs _ (by decide +kernel)
      | 3, _ => exact hs _ (by decide +kernel)
      | n + 4, h => exact absurd h (Nat.not_lt.mpr (Nat.le_add_left 4 n))))
    (fun i j hi hj hne => by
      match i, j, hi, hj with
      | 0, 0, _, _ => exact absurd rfl hne
      | 0, 1, _, _ => exact Or.inr (hs _ (by decide +kernel))
      | 1, 0, _, _ => exact Or.inl (hs _ (by decide +kernel))
      | 1, 1, _, _ => exact absurd rfl hne) hA
  exact ⟨adK, adV, h1, vk_R.of (hts _ q600) (h2 0 (by decide)), vk_R.of (hts _ q466) (h2 1 (by decide)), va_Zof (hts _ q480) (hts _ (lw_all_tbl q124)) (va_eqt (hs _ (by decide +kernel))) hA⟩
def σ0 : MM := (fun _ _ => 0, fun _ _ => 0, fun _ => (99, 0), 0, 0)
/-- from the entry, out of the plain theorem -/
theorem start_of {p : Program} {e : Env} {s : State} {m : MethodId} {below : List Frame} {meth : Method} {c : Code} (l : Launch) {b L F : Nat} {xs : Nat → Int32} {σf : MM} {kf nf : Nat} (hg : g_L_law F L xs σ0 = some ((1 : Int32), σf, kf, nf)) (C0 : lw_At p s m meth c b L xs) : W p l e room_1 s m #[Value.ref b] below meth c s.heap [] 0 0 (lw_Z below #[Value.ref b] s) (entryFrame m ([Value.ref b] : List Value).toArray 4) := by
  obtain ⟨hx, hcb, hret, hml, hown, htb, hX, hbl, hlk, hgv⟩ := C0
  obtain ⟨B, hB⟩ : ∃ B, s.heap.size = B + 1 := ⟨s.heap.size - 1, by omega⟩
  have hts : ∀ w ∈ lw_all, w.before #[Value.ref b] s = true := fun w hw => htb w (lw_all_tbl hw)
  obtain ⟨D, hD⟩ := start_cls hts
  obtain ⟨tA, hA⟩ := start_ty htb
  obtain ⟨adK, adV, hS⟩ := start_S htb hgv hB
  have hK : va_K D mCl (mTys tA) s := ⟨hD, hA⟩
  have hN : xN s := fun w hw => va_Nw.of (nestW_tab (List.mem_filter.mp hw).2) (htb w (List.mem_filter.mp hw).1)
  have hO : xO s := ⟨va_AO.of (htb _ q286), va_AO.of (htb _ q288), htb _ q206⟩
  have hZ : xZ D tA B (s.heap, adK, adV) σ0 s.heap := ⟨hB, hB, fun _ _ => rfl, fun a h => absurd rfl h⟩
  have hcat : catOK [Value.ref b] := cat_cons rfl cat_nil
  have hl2 := lv_entry [Value.ref b] (n := 4) (by rw [lg_len [Value.ref b] hcat]; exact Nat.le_of_ble_eq_true rfl)
  rw [lg_entry_eq]
  have hb := w_L_law (B := B) (F := F) (G := (p, l, e, room_1, s, m, #[Value.ref b], below, meth, c, D, tA, (s.heap, adK, adV), lw_Z below #[Value.ref b] s)) (d := 2500) (b := b) (by decide) ⟨hx, hcb, hret, hlk, hml, hown, hts, ⟨hK, hN, start_apart hts hK, hO, hS⟩, ⟨by decide, by decide, rfl, rfl⟩, fun e => absurd e (by decide)⟩ ⟨rfl, rfl, rfl, hB, by omega, hX⟩ hg
  refine hb s.heap [] _ hZ (fun q h => by cases h) ?_ (fun q hq => ?_) cat_nil
  · rw [hml]
    exact hl2
  · rcases List.mem_cons.mp hq with e | e
    · rw [e]; rfl
    · cases e
