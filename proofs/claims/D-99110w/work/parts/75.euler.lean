/-! A ROW OF ALL DEBTS: walks and what they use -/
def one1 (p b : Nat) : Nat → Nat → Nat := fun x y => if x = p ∧ y = b then 1 else 0
def us : Nat → List Nat → Nat → Nat → Nat
  | _, [] => fun _ _ => 0
  | p, b :: l => fun x y => one1 p b x y + us b l x y
def en : Nat → List Nat → Nat
  | p, [] => p
  | _, b :: l => en b l
def ok10 (l : List Nat) : Prop := ∀ b, b ∈ l → b < 10
theorem en_app : ∀ (l l' : List Nat) (p : Nat), en p (l ++ l') = en (en p l) l'
  | [], _, _ => rfl
  | b :: l, l', _ => en_app l l' b
theorem us_app : ∀ (l l' : List Nat) (p x y : Nat), us p (l ++ l') x y = us p l x y + us (en p l) l' x y
  | [], l', p, x, y => by show us p l' x y = 0 + us p l' x y; omega
  | b :: l, l', p, x, y => by
    show one1 p b x y + us b (l ++ l') x y = one1 p b x y + us b l x y + us (en b l) l' x y
    rw [us_app l l' b x y]
    omega
theorem ok10_app {l l' : List Nat} (h : ok10 l) (h' : ok10 l') : ok10 (l ++ l') := fun b hb => (List.mem_append.mp hb).elim (h b) (h' b)
theorem en_lt : ∀ (l : List Nat) (p : Nat), p < 10 → ok10 l → en p l < 10
  | [], p, hp, _ => hp
  | b :: l, _, _, h => en_lt l b (h b (List.mem_cons_self ..)) (fun c hc => h c (List.mem_cons_of_mem _ hc))
def e1 (a p : Nat) : Nat := if a = p then 1 else 0
theorem sm_point {f : Nat → Nat} {b v : Nat} : ∀ n, (∀ k, k < n → f k = if k = b then v else 0) → sm f n = if b < n then v else 0
  | 0, _ => rfl
  | n + 1, h => by
    show sm f n + f n = _
    rw [sm_point n (fun k hk => h k (by omega)), h n (by omega)]
    by_cases c : n = b
    · subst c
      rw [if_neg (Nat.lt_irrefl _), if_pos rfl, if_pos (Nat.lt_succ_self _), Nat.zero_add]
    · rw [if_neg c]
      by_cases c2 : b < n
      · rw [if_pos c2, if_pos (by omega)]; rfl
      · rw [if_neg c2, if_neg (by omega)]
theorem owes_one {p b a : Nat} (hb : b < 10) : owesS (one1 p b) a = e1 a p := by
  unfold owesS e1
  by_cases c : a = p
  · rw [if_pos c]
    rw [sm_point (b := b) (v := 1) 10 (fun k _ => by
      unfold one1
      by_cases e : k = b
      · rw [if_pos ⟨c, e⟩, if_pos e]
      · rw [if_neg (fun q => e q.2), if_neg e]), if_pos hb]
  · rw [if_neg c]
    rw [sm_congr (g := fun _ => 0) 10 (fun k _ => by unfold one1; rw [if_neg (fun q => c q.1)]), sm_zero]
theorem gets_one {p b a : Nat} (hp : p < 10) : getsS (one1 p b) a = e1 a b := by
  unfold getsS e1
  by_cases c : a = b
  · rw [if_pos c]
    rw [sm_point (b := p) (v := 1) 10 (fun k _ => by
      unfold one1
      by_cases e : k = p
      · rw [if_pos ⟨e, c⟩, if_pos e]
      · rw [if_neg (fun q => e q.1), if_neg e]), if_pos hp]
  · rw [if_neg c]
    rw [sm_congr (g := fun _ => 0) 10 (fun k _ => by unfold one1; rw [if_neg (fun q => c q.2)]), sm_zero]
theorem owes_add (f g : Nat → Nat → Nat) (a : Nat) : owesS (fun x y => f x y + g x y) a = owesS f a + owesS g a := sm_add 10
theorem gets_add (f g : Nat → Nat → Nat) (a : Nat) : getsS (fun x y => f x y + g x y) a = getsS f a + getsS g a := sm_add (f := fun k => f k a) (g := fun k => g k a) 10
theorem owes_congr {f g : Nat → Nat → Nat} {a : Nat} (h : ∀ b, b < 10 → f a b = g a b) : owesS f a = owesS g a := sm_congr 10 h
theorem gets_congr {f g : Nat → Nat → Nat} {b : Nat} (h : ∀ a, a < 10 → f a b = g a b) : getsS f b = getsS g b := sm_congr 10 h
/-- what a walk owes and gets -/
theorem us_bal : ∀ (l : List Nat) (p a : Nat), p < 10 → ok10 l → owesS (us p l) a + e1 a (en p l) = getsS (us p l) a + e1 a p
  | [], p, a, _, _ => rfl
  | b :: l, p, a, hp, h => by
    have hb := h b (List.mem_cons_self ..)
    have ih := us_bal l b a hb (fun c hc => h c (List.mem_cons_of_mem _ hc))
    show owesS (fun x y => one1 p b x y + us b l x y) a + e1 a (en b l) = getsS (fun x y => one1 p b x y + us b l x y) a + e1 a p
    rw [owes_add, gets_add, owes_one hb, gets_one hp]
    omega
theorem us_len : ∀ (l : List Nat) (p : Nat), p < 10 → ok10 l → allS (us p l) = l.length
  | [], p, _, _ => by
    show sm (fun a => sm (fun _ => 0) 10) 10 = 0
    rw [sm_zero, sm_zero]
  | b :: l, p, hp, h => by
    have hb := h b (List.mem_cons_self ..)
    have ih := us_len l b hb (fun c hc => h c (List.mem_cons_of_mem _ hc))
    show sm (fun a => owesS (fun x y => one1 p b x y + us b l x y) a) 10 = l.length + 1
    rw [sm_congr 10 (g := fun a => e1 a p + owesS (us b l) a) (fun a _ => by rw [owes_add, owes_one hb]), sm_add]
    have : sm (fun a => e1 a p) 10 = 1 := by
      rw [sm_point (f := fun a => e1 a p) (b := p) (v := 1) 10 (fun k _ => rfl), if_pos hp]
    rw [this]
    have e : sm (owesS (us b l)) 10 = l.length := ih
    omega
theorem sm_pos {f : Nat → Nat} : ∀ n, 0 < sm f n → ∃ k, k < n ∧ 0 < f k
  | 0, h => absurd h (Nat.lt_irrefl 0)
  | n + 1, h => by
    have h : 0 < sm f n + f n := h
    by_cases c : 0 < f n
    · exact ⟨n, by omega, c⟩
    · obtain ⟨k, hk, e⟩ := sm_pos (f := f) n (by omega)
      exact ⟨k, by omega, e⟩
theorem sm_ge {f : Nat → Nat} {k : Nat} : ∀ n, k < n → f k ≤ sm f n
  | 0, h => absurd h (Nat.not_lt_zero k)
  | n + 1, h => by
    show f k ≤ sm f n + f n
    by_cases c : k = n
    · subst c; omega
    · have := sm_ge (f := f) (k := k) n (by omega)
      omega
/-- balance: from p to e -/
def balB (d : Nat → Nat → Nat) (p e : Nat) : Prop := ∀ a, a < 10 → owesS d a + e1 a e = getsS d a + e1 a p
theorem sub_owes {d u : Nat → Nat → Nat} {a : Nat} (h : ∀ b, b < 10 → u a b ≤ d a b) : owesS (fun x y => d x y - u x y) a + owesS u a = owesS d a := by
  rw [← owes_add]
  exact owes_congr (fun b hb => by have := h b hb; omega)
theorem sub_gets {d u : Nat → Nat → Nat} {b : Nat} (h : ∀ a, a < 10 → u a b ≤ d a b) : getsS (fun x y => d x y - u x y) b + getsS u b = getsS d b := by
  rw [← gets_add]
  exact gets_congr (fun a ha => by have := h a ha; omega)
def fits_ (d u : Nat → Nat → Nat) : Prop := ∀ a, a < 10 → ∀ b, b < 10 → u a b ≤ d a b
theorem all_le {d u : Nat → Nat → Nat} (h : fits_ d u) : allS u ≤ allS d := sm_mono 10 (fun a ha => sm_mono 10 (fun b hb => h a ha b hb))
theorem all_eq {d u : Nat → Nat → Nat} (h : fits_ d u) (e : allS u = allS d) : ∀ a, a < 10 → ∀ b, b < 10 → u a b = d a b := fun a ha b hb => sm_eq 10 (fun b hb => h a ha b hb) (sm_eq 10 (fun a ha => sm_mono 10 (fun b hb => h a ha b hb)) e a ha) b hb
/-- one more step -/
theorem us_step {d : Nat → Nat → Nat} {l : List Nat} {p b : Nat} (hf : fits_ d (us p l)) (hb : us p l (en p l) b < d (en p l) b) : fits_ d (us p (l ++ [b])) := by
  intro x hx y hy
  rw [us_app]
  show us p l x y + (one1 (en p l) b x y + 0) ≤ d x y
  have := hf x hx y hy
  unfold one1
  by_cases c : x = en p l ∧ y = b
  · rw [if_pos c, c.1, c.2]; omega
  · rw [if_neg c]; omega
/-- a ring in what is balanced -/
theorem ring_ex {d : Nat → Nat → Nat} {v : Nat} (hv : v < 10) (hbal : ∀ a, a < 10 → owesS d a = getsS d a) : ∀ (n : Nat) (l : List Nat), allS d - l.length ≤ n → ok10 l → l ≠ [] → fits_ d (us v l) → ∃ c, ok10 c ∧ c ≠ [] ∧ fits_ d (us v c) ∧ en v c = v := by
  intro n
  induction n with
  | zero =>
    intro l hn hl hne hf
    by_cases c : en v l = v
    · exact ⟨l, hl, hne, hf, c⟩
    · -- all is used, so it must have come back
      exfalso
      have e := us_len l v hv hl
      have le := all_le hf
      have eq := all_eq hf (by omega)
      have b := us_bal l v (en v l) hv hl
      rw [owes_congr (eq _ (en_lt l v hv hl)), gets_congr (fun a ha => eq a ha _ (en_lt l v hv hl)), hbal _ (en_lt l v hv hl)] at b
      unfold e1 at b
      rw [if_pos rfl, if_neg c] at b
      omega
  | succ n ih =>
    intro l hn hl hne hf
    by_cases c : en v l = v
    · exact ⟨l, hl, hne, hf, c⟩
    · have hen := en_lt l v hv hl
      have b := us_bal l v (en v l) hv hl
      have so := sub_owes (d := d) (u := us v l) (a := en v l) (fun b hb => hf _ hen b hb)
      have sg := sub_gets (d := d) (u := us v l) (b := en v l) (fun a ha => hf a ha _ hen)
      have hb := hbal _ hen
      unfold e1 at b
      rw [if_pos rfl, if_neg c] at b
      obtain ⟨k, hk, hpos⟩ := sm_pos (f := fun y => d (en v l) y - us v l (en v l) y) 10 (show 0 < owesS (fun x y => d x y - us v l x y) (en v l) by omega)
      have hlen := us_len l v hv hl
      have le := all_le (us_step hf (b := k) (by omega))
      rw [us_len _ v hv (ok10_app hl (fun c hc => by rw [List.mem_singleton.mp hc]; exact hk)), List.length_append] at le
      have le : l.length + 1 ≤ allS d := le
      refine ih (l ++ [k]) ?_ (ok10_app hl (fun c hc => by rw [List.mem_singleton.mp hc]; exact hk)) (fun q => by simp at q) (us_step hf (by omega))
      rw [List.length_append]
      show allS d - (l.length + 1) ≤ n
      omega
/-- who is on a walk -/
def onW (p : Nat) (l : List Nat) (v : Nat) : Prop := ∃ l1 l2, l = l1 ++ l2 ∧ en p l1 = v
theorem us_on : ∀ (l : List Nat) (p a b : Nat), 0 < us p l a b → onW p l a ∧ onW p l b
  | [], p, a, b, h => absurd h (Nat.lt_irrefl 0)
  | c :: l, p, a, b, h => by
    have h : 0 < one1 p c a b + us c l a b := h
    by_cases e : 0 < us c l a b
    · obtain ⟨⟨l1, l2, u1, u2⟩, ⟨m1, m2, v1, v2⟩⟩ := us_on l c a b e
      exact ⟨⟨c :: l1, l2, by rw [u1]; rfl, u2⟩, ⟨c :: m1, m2, by rw [v1]; rfl, v2⟩⟩
    · have h1 : 0 < one1 p c a b := by omega
      unfold one1 at h1
      by_cases q : a = p ∧ b = c
      · exact ⟨⟨[], c :: l, rfl, q.1.symm⟩, ⟨[c], l, rfl, q.2.symm⟩⟩
      · rw [if_neg q] at h1; exact absurd h1 (Nat.lt_irrefl 0)
theorem on_end {p : Nat} {l : List Nat} : onW p l (en p l) := ⟨l, [], (List.append_nil l).symm, rfl⟩
theorem on_lt {p v : Nat} {l : List Nat} (hp : p < 10) (hl : ok10 l) (h : onW p l v) : v < 10 := by
  obtain ⟨l1, l2, e, rfl⟩ := h
  exact en_lt l1 p hp (fun c hc => hl c (by rw [e]; exact List.mem_append_left _ hc))
/-- a longer walk, while not all is used -/
theorem walk_more {d : Nat → Nat → Nat} {p e : Nat} (hp : p < 10) (he : e < 10) (hb : balB d p e) (hr : ∀ a, a < 10 → 0 < owesS d a → (rS d p).testBit a = true) {l : List Nat} (hl : ok10 l) (hf : fits_ d (us p l)) (hlt : l.length < allS d) : ∃ l', ok10 l' ∧ fits_ d (us p l') ∧ l.length < l'.length := by
  have hen := en_lt l p hp hl
  by_cases c : ∃ k, k < 10 ∧ us p l (en p l) k < d (en p l) k
  · obtain ⟨k, hk, h⟩ := c
    refine ⟨l ++ [k], ok10_app hl (fun c hc => by rw [List.mem_singleton.mp hc]; exact hk), us_step hf h, ?_⟩
    rw [List.length_append]
    exact Nat.lt_succ_self _
  · have cz : ∀ k, k < 10 → d (en p l) k = us p l (en p l) k := fun k hk => by
      have h1 := hf _ hen k hk
      have h2 : ¬ us p l (en p l) k < d (en p l) k := fun q => c ⟨k, hk, q⟩
      omega
    -- the end is e, what is left is balanced
    have so := fun a ha => sub_owes (d := d) (u := us p l) (a := a) (fun b hb => hf a ha b hb)
    have sg := fun b hb => sub_gets (d := d) (u := us p l) (b := b) (fun a ha => hf a ha b hb)
    have ub := fun a => us_bal l p a hp hl
    have ee : en p l = e := by
      have h1 := hb _ hen
      have h2 := ub (en p l)
      have h3 : owesS d (en p l) = owesS (us p l) (en p l) := owes_congr cz
      have h4 := sg _ hen
      unfold e1 at h1 h2
      rw [if_pos rfl] at h2
      by_cases q : en p l = e
      · exact q
      · rw [if_neg q] at h1; omega
    have rb : ∀ a, a < 10 → owesS (fun x y => d x y - us p l x y) a = getsS (fun x y => d x y - us p l x y) a := fun a ha => by
      have h1 := hb a ha
      have h2 := ub a
      have h3 := so a ha
      have h4 := sg a ha
      rw [ee] at h2
      omega
    -- somebody on the walk has something left
    have ex : ∃ v k, onW p l v ∧ v < 10 ∧ k < 10 ∧ us p l v k < d v k := by
      apply Classical.byContradiction
      intro no
      have no' : ∀ v, onW p l v → v < 10 → ∀ k, k < 10 → d v k = us p l v k := fun v h1 h2 k hk => by
        have h3 := hf v h2 k hk
        have h4 : ¬ us p l v k < d v k := fun q => no ⟨v, k, h1, h2, hk, q⟩
        omega
      -- the set of those on the walk
      have hset : ∃ s : Nat, ∀ i, i < 10 → (s.testBit i = true ↔ onW p l i) := by
        refine ⟨orb (fun i => (Classical.propDecidable (onW p l i)).decide) 10, fun i hi => ?_⟩
        rw [orb_bit, decide_eq_true hi, Bool.true_and]
        exact @decide_eq_true_iff _ (Classical.propDecidable (onW p l i))
      obtain ⟨s, hs⟩ := hset
      have sub : sub_ (rS d p) s := (rS_is hp).2.2.2 s ((hs p hp).mpr ⟨[], l, rfl, rfl⟩) (fun a ha b hb9 h1 h2 => by
        have ha' := (hs a ha).mp h1
        rw [no' a ha' ha b hb9] at h2
        exact (hs b hb9).mpr (us_on l p a b h2).2)
      have all : ∀ a, a < 10 → ∀ b, b < 10 → us p l a b = d a b := fun a ha b hb9 => by
        by_cases q : d a b = 0
        · have := hf a ha b hb9; omega
        · have h1 : 0 < owesS d a := by
            have := sm_ge (f := fun b => d a b) (k := b) 10 hb9
            show 0 < sm (fun b => d a b) 10
            have e0 : (fun b => d a b) b = d a b := rfl
            omega
          exact (no' a ((hs a ha).mp (sub a (hr a ha h1))) ha b hb9).symm
      have h5 := us_len l p hp hl
      have h6 : allS (us p l) = allS d := sm_congr 10 (fun a ha => sm_congr 10 (fun b hb9 => all a ha b hb9))
      omega
    obtain ⟨v, k, hv, hv10, hk, hlt2⟩ := ex
    obtain ⟨l1, l2, el, ev⟩ := hv
    have one_fits : fits_ (fun x y => d x y - us p l x y) (us v [k]) := by
      intro x hx y hy
      show one1 v k x y + 0 ≤ d x y - us p l x y
      unfold one1
      by_cases q : x = v ∧ y = k
      · rw [if_pos q, q.1, q.2]; omega
      · rw [if_neg q]; omega
    obtain ⟨cc, c1, c2, c3, c4⟩ := ring_ex hv10 rb _ [k] (Nat.le_refl _) (fun c hc => by rw [List.mem_singleton.mp hc]; exact hk) (fun q => by simp at q) one_fits
    have o1 : ok10 l1 := fun c hc => hl c (by rw [el]; exact List.mem_append_left _ hc)
    have o2 : ok10 l2 := fun c hc => hl c (by rw [el]; exact List.mem_append_right _ hc)
    refine ⟨l1 ++ (cc ++ l2), ok10_app o1 (ok10_app c1 o2), fun x hx y hy => ?_, ?_⟩
    · rw [us_app, us_app, ev, c4]
      have h1 : us v cc x y ≤ d x y - us p l x y := c3 x hx y hy
      have h2 := hf x hx y hy
      have h3 : us p l x y = us p l1 x y + us v l2 x y := by rw [el, us_app, ev]
      omega
    · rw [el, List.length_append, List.length_append, List.length_append]
      have : 0 < cc.length := List.length_pos_iff.mpr c2
      omega
theorem walk_all {d : Nat → Nat → Nat} {p e : Nat} (hp : p < 10) (he : e < 10) (hb : balB d p e) (hr : ∀ a, a < 10 → 0 < owesS d a → (rS d p).testBit a = true) : ∃ l, ok10 l ∧ ∀ a, a < 10 → ∀ b, b < 10 → us p l a b = d a b := by
  have key : ∀ n l, allS d - l.length ≤ n → ok10 l → fits_ d (us p l) → ∃ l, ok10 l ∧ ∀ a, a < 10 → ∀ b, b < 10 → us p l a b = d a b := by
    intro n
    induction n with
    | zero =>
      intro l hn hl hf
      have h1 := us_len l p hp hl
      have h2 := all_le hf
      exact ⟨l, hl, all_eq hf (by omega)⟩
    | succ n ih =>
      intro l hn hl hf
      by_cases c : l.length < allS d
      · obtain ⟨l', h1, h2, h3⟩ := walk_more hp he hb hr hl hf c
        exact ih l' (by omega) h1 h2
      · have h1 := us_len l p hp hl
        have h2 := all_le hf
        exact ⟨l, hl, all_eq hf (by omega)⟩
  exact key _ [] (Nat.le_refl _) (fun c hc => absurd hc (List.not_mem_nil)) (fun a _ b _ => Nat.zero_le _)
/-- all on a walk can be come to -/
theorem us_reach {d : Nat → Nat → Nat} {s : Nat} (hc : closed d s) : ∀ (l : List Nat) (p : Nat), p < 10 → ok10 l → (∀ a, a < 10 → ∀ b, b < 10 → us p l a b ≤ d a b) → s.testBit p = true → ∀ a b, 0 < us p l a b → s.testBit a = true
  | [], _, _, _, _, _, a, b, h => absurd h (Nat.lt_irrefl 0)
  | c :: l, p, hp, hl, hf, hs, a, b, h => by
    have hc10 := hl c (List.mem_cons_self ..)
    have h : 0 < one1 p c a b + us c l a b := h
    by_cases e : 0 < us c l a b
    · have f1 : us p (c :: l) p c ≤ d p c := hf p hp c hc10
      have f2 : us p (c :: l) p c = one1 p c p c + us c l p c := rfl
      have f3 : one1 p c p c = 1 := if_pos ⟨rfl, rfl⟩
      refine us_reach hc l c hc10 (fun x hx => hl x (List.mem_cons_of_mem _ hx)) (fun x hx y hy => ?_) (hc p hp c hc10 hs (by omega)) a b e
      have := hf x hx y hy
      have f4 : us p (c :: l) x y = one1 p c x y + us c l x y := rfl
      omega
    · have h1 : 0 < one1 p c a b := by omega
      unfold one1 at h1
      by_cases q : a = p ∧ b = c
      · rw [q.1]; exact hs
      · rw [if_neg q] at h1; exact absurd h1 (Nat.lt_irrefl 0)
/-- a row of all, told by balance -/
theorem rowB_bal {d : Nat → Nat → Nat} {p : Nat} (hp : p < 10) : rowB d p ↔ (∃ e, e < 10 ∧ balB d p e) ∧ ∀ a, a < 10 → 0 < owesS d a → (rS d p).testBit a = true := by
  rw [rowB_iff (rS_is hp)]
  have hs := owes_gets d
  constructor
  · intro h
    have hc := (row_eq hp hs).mpr h
    obtain ⟨h1, h2⟩ := hc
    refine ⟨?_, fun a ha => (h1 a ha).1⟩
    rcases h2 with h2 | ⟨h2, h3, h4⟩
    · refine ⟨p, hp, fun a ha => ?_⟩
      have z := cnt_zero 10 h2
      have le : ∀ k, k < 10 → owesS d k ≤ getsS d k := fun k hk => by
        have u1 := (h1 k hk).2.1
        have u2 := of_decide_eq_false (z k hk)
        omega
      rw [sm_eq 10 le hs a ha]
    · obtain ⟨f, hf, hfe⟩ : ∃ f, f < 10 ∧ getsS d f = owesS d f + 1 := by
        apply Classical.byContradiction
        intro no
        have := cnt_none (p := fun a => decide (getsS d a = owesS d a + 1)) 10 (fun k hk => decide_eq_false (fun q => no ⟨k, hk, q⟩))
        omega
      refine ⟨f, hf, fun a ha => ?_⟩
      have u := h1 a ha
      unfold e1
      by_cases c1 : a = p
      · have : a ≠ f := fun q => by rw [← q] at hfe; rw [← c1] at h4; omega
        rw [if_pos c1, if_neg this, c1, h4]
      · rw [if_neg c1]
        by_cases c2 : a = f
        · rw [if_pos c2, c2, hfe]
        · rw [if_neg c2]
          have n1 : ¬ owesS d a = getsS d a + 1 := fun q => c1 (cnt_uniq (p := fun a => decide (owesS d a = getsS d a + 1)) 10 h2 a p ha hp (decide_eq_true q) (decide_eq_true h4))
          have n2 : ¬ getsS d a = owesS d a + 1 := fun q => c2 (cnt_uniq (p := fun a => decide (getsS d a = owesS d a + 1)) 10 h3 a f ha hf (decide_eq_true q) (decide_eq_true hfe))
          omega
  · rintro ⟨⟨f, hf, hb⟩, hr⟩
    refine ⟨fun a ha => ⟨hr a ha, ?_⟩, ?_⟩
    · have := hb a ha
      unfold e1 at this
      split at this <;> split at this <;> omega
    · by_cases c : p = f
      · subst c
        refine Or.inl ⟨cnt_none 10 (fun k hk => decide_eq_false (fun q => ?_)), ?_⟩
        · have := hb k hk; omega
        · have := hb p hp; omega
      · have hpp := hb p hp
        unfold e1 at hpp
        rw [if_neg c, if_pos rfl] at hpp
        refine Or.inr ⟨cnt_one 10 hp (decide_eq_true (by omega)) (fun j hj q => ?_), by omega⟩
        have q := of_decide_eq_true q
        have := hb j hj
        unfold e1 at this
        by_cases c2 : j = p
        · exact c2
        · rw [if_neg c2] at this; omega
def decD (d : Nat → Nat → Nat) (a b : Nat) : Nat → Nat → Nat := fun x y => if x = a ∧ y = b then d x y - 1 else d x y
/-- the first step of a row of all -/
theorem row_step {d : Nat → Nat → Nat} {p : Nat} (hp : p < 10) (h : rowB d p) (h0 : 0 < allS d) : ∃ b, b < 10 ∧ 0 < d p b ∧ rowB (decD d p b) b := by
  obtain ⟨⟨e, he, hb⟩, hr⟩ := (rowB_bal hp).mp h
  obtain ⟨l, hl, hu⟩ := walk_all hp he hb hr
  cases l with
  | nil =>
    have : allS d = 0 := by
      have e := us_len [] p hp hl
      have e2 : allS (us p []) = allS d := sm_congr 10 (fun a ha => sm_congr 10 (fun b hb9 => hu a ha b hb9))
      rw [← e2]
      exact e
    omega
  | cons b l =>
    have hb10 := hl b (List.mem_cons_self ..)
    have hl' : ok10 l := fun x hx => hl x (List.mem_cons_of_mem _ hx)
    have u : ∀ x, x < 10 → ∀ y, y < 10 → one1 p b x y + us b l x y = d x y := hu
    have eq : ∀ x, x < 10 → ∀ y, y < 10 → us b l x y = decD d p b x y := fun x hx y hy => by
      have := u x hx y hy
      unfold one1 at this
      unfold decD
      by_cases c : x = p ∧ y = b
      · rw [if_pos c] at this ⊢; omega
      · rw [if_neg c] at this ⊢; omega
    refine ⟨b, hb10, ?_, (rowB_bal hb10).mpr ⟨⟨en b l, en_lt l b hb10 hl', fun a ha => ?_⟩, fun a ha h1 => ?_⟩⟩
    · have := u p hp b hb10
      unfold one1 at this
      rw [if_pos ⟨rfl, rfl⟩] at this
      omega
    · rw [← owes_congr (f := us b l) (fun y hy => eq a ha y hy), ← gets_congr (f := us b l) (fun x hx => eq x hx a ha)]
      exact us_bal l b a hb10 hl'
    · obtain ⟨y, hy, hpos⟩ := sm_pos (f := fun y => decD d p b a y) 10 h1
      have hpos : 0 < decD d p b a y := hpos
      rw [← eq a ha y hy] at hpos
      exact us_reach (rS_is hb10).2.2.1 l b hb10 hl' (fun x hx y hy => by rw [eq x hx y hy]; exact Nat.le_refl _) (rS_is hb10).2.1 a y hpos
