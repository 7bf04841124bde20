section
/-- the place that step s writes -/
def td_W (c s : Nat) : Nat := if s = 2 then 6 + c else 1
/-- what step s writes -/
def td_X (p q : Int32) (s : Nat) : Int32 := if s = 3 then q else p
/-- the state at time m -/
def td_V (i p q : Int32) (c : Nat) : Nat → Nat → Int32
  | 0 => fun j => if j = 5 then i else 0
  | m + 1 => upd (td_V i p q c m) (td_W c (m + 1)) (td_X p q (m + 1))
/-- the last writer of each place at time m -/
def td_L (c : Nat) : Nat → Nat → Int32
  | 0 => fun _ => 0
  | m + 1 => upd (td_L c m) (td_W c (m + 1)) (nI (m + 1))
def td_op (s : Nat) : Int32 := if s = 1 then 5 else 0
def td_Y (p q : Int32) (s : Nat) : Int32 := if s = 0 then p else if s = 1 then 5 else q
/-- the program's first n rows -/
def td_P (p q : Int32) (n : Nat) (a1 a2 a3 : Nat → Int32) : Prop := ∀ s, s < n → a1 s = td_op s ∧ a2 s = 1 ∧ a3 s = td_Y p q s
/-- the history of m steps -/
def td_S (i p q : Int32) (c m : Nat) (a6 a7 a8 a9 : Nat → Int32) : Prop := ∀ s, s < m → a6 (s + 1) = nI (td_W c (s + 1)) ∧ a7 (s + 1) = td_V i p q c s (td_W c (s + 1)) ∧ a8 (s + 1) = td_X p q (s + 1) ∧ a9 (s + 1) = td_L c s (td_W c (s + 1))
/-- r times are noted: number s at time s, no time before -/
def td_T (r : Nat) (a10 a11 a13 : Nat → Int32) : Prop := (∀ s, s < r → a10 s = nI s ∧ a11 s = -1) ∧ (∀ j, j < 21 → a13 j = if j < r then nI j else -1)
/-- the object holds a program of n rows, and the input i -/
def td_K (i p q : Int32) (n : Nat) (u : St2) : Prop := match u with
  | (f0, f1, f2, f3, a1, a2, a3, a4, a5, a6, a7, a8, a9, a10, a11, a12, a13, a14) => f0 = nI n ∧ f1 = i ∧ td_P p q n a1 a2 a3
/-- the object after m executed steps, at time k -/
def td_H (i p q : Int32) (c n m k : Nat) (u : St2) : Prop := match u with
  | (f0, f1, f2, f3, a1, a2, a3, a4, a5, a6, a7, a8, a9, a10, a11, a12, a13, a14) => f0 = nI n ∧ f1 = i ∧ f2 = nI k ∧ f3 = nI m ∧ td_P p q n a1 a2 a3 ∧ (∀ j, j < 14 → a5 j = td_V i p q c k j) ∧ td_S i p q c m a6 a7 a8 a9 ∧ td_T (m + 1) a10 a11 a13 ∧ (∀ j, j < 14 → a12 j = td_L c m j) ∧ (∀ j, j < 14 → a14 j = td_V i p q c 0 j)
theorem td_HK {i p q : Int32} {c : Nat} {n m k : Nat} {u : St2} (h : td_H i p q c n m k u) : td_K i p q n u := by
  obtain ⟨f0, f1, f2, f3, a1, a2, a3, a4, a5, a6, a7, a8, a9, a10, a11, a12, a13, a14⟩ := u
  exact ⟨h.1, h.2.1, h.2.2.2.2.1⟩
theorem td_b8 : ∀ n, n < 128 → (nI n).toInt8.toInt32 = nI n := by decide +kernel
theorem td_s16 : ∀ n, n < 256 → (nI n).toInt16.toInt32 = nI n := by decide +kernel
theorem td_sm1 : vp_nar .short (-1) = -1 := by
  rw [vp_nar_short]
  decide
theorem td_W14 {c s : Nat} (h8 : c < 8) : td_W c s < 14 := by
  unfold td_W
  split <;> omega
theorem td_Ln (c : Nat) : ∀ m j, ∃ r, r ≤ m ∧ td_L c m j = nI r := by
  intro m
  induction m with
  | zero => intro j; exact ⟨0, Nat.le_refl 0, rfl⟩
  | succ m ih =>
    intro j
    by_cases e : j = td_W c (m + 1)
    · exact ⟨m + 1, Nat.le_refl _, by rw [e]; exact pk_us⟩
    · obtain ⟨r, hr, er⟩ := ih j
      exact ⟨r, by omega, (pk_un e).trans er⟩
theorem td_Lnar {c m : Nat} (hm : m ≤ 100) (j : Nat) : vp_nar .short (td_L c m j) = td_L c m j := by
  obtain ⟨r, hr, er⟩ := td_Ln c m j
  rw [er, vp_nar_short]
  exact td_s16 r (by omega)
theorem td_up {a F : Nat → Int32} {N w : Nat} {x y : Int32} (h : ∀ j, j < N → a j = F j) (e : x = y) : ∀ j, j < N → upd a w x j = upd F w y j := by
  intro j hj
  by_cases z : j = w
  · rw [z, pk_us, pk_us, e]
  · rw [pk_un z, pk_un z]
    exact h j hj
theorem td_S_add {i p q : Int32} {c : Nat} {m : Nat} {a6 a7 a8 a9 : Nat → Int32} {x6 x7 x8 x9 : Int32} (hS : td_S i p q c m a6 a7 a8 a9) (e6 : x6 = nI (td_W c (m + 1))) (e7 : x7 = td_V i p q c m (td_W c (m + 1))) (e8 : x8 = td_X p q (m + 1)) (e9 : x9 = td_L c m (td_W c (m + 1))) :
    td_S i p q c (m + 1) (upd a6 (m + 1) x6) (upd a7 (m + 1) x7) (upd a8 (m + 1) x8) (upd a9 (m + 1) x9) := by
  intro s hs
  by_cases e : s = m
  · rw [e, pk_us, pk_us, pk_us, pk_us]
    exact ⟨e6, e7, e8, e9⟩
  · have hne : s + 1 ≠ m + 1 := by omega
    rw [pk_un hne, pk_un hne, pk_un hne, pk_un hne]
    exact hS s (by omega)
theorem td_S_keep {i p q : Int32} {c : Nat} {m : Nat} {a6 a7 a8 a9 : Nat → Int32} {x : Int32} (hS : td_S i p q c m a6 a7 a8 a9) : td_S i p q c m (upd a6 (m + 1) x) a7 a8 a9 := by
  intro s hs
  have hne : s + 1 ≠ m + 1 := by omega
  rw [pk_un hne]
  exact hS s hs
theorem td_T_0 {a10 a11 a13 : Nat → Int32} (h : ∀ j, j < 21 → a13 j = -1) : td_T 0 a10 a11 a13 :=
  ⟨fun s hs => absurd hs (by omega), fun j hj => by rw [h j hj, if_neg (by omega)]⟩
theorem td_T_add {r : Nat} {a10 a11 a13 : Nat → Int32} (hr : r < 20) (hT : td_T r a10 a11 a13) : td_T (r + 1) (upd a10 r (nI r).toInt8.toInt32) (upd a11 r (vp_nar .short (a13 r))) (upd a13 r (nI r).toInt16.toInt32) := by
  refine ⟨fun s hs => ?_, fun j hj => ?_⟩
  · by_cases e : s = r
    · rw [e, pk_us, pk_us, td_b8 r (by omega), hT.2 r (by omega), if_neg (by omega), td_sm1]
      exact ⟨rfl, rfl⟩
    · rw [pk_un e, pk_un e]
      exact hT.1 s (by omega)
  · by_cases e : j = r
    · rw [e, pk_us, td_s16 r (by omega), if_pos (by omega)]
    · rw [pk_un e, hT.2 j hj]
      by_cases z : j < r
      · rw [if_pos z, if_pos (by omega)]
      · rw [if_neg z, if_neg (by omega)]
/-- undone: the state before -/
theorem td_V_un {i p q : Int32} {c : Nat} {k : Nat} {a : Nat → Int32} {w : Nat} {x : Int32} (h : ∀ j, j < 14 → a j = td_V i p q c (k + 1) j) (hw : w = td_W c (k + 1)) (hx : x = td_V i p q c k (td_W c (k + 1))) : ∀ j, j < 14 → upd a w x j = td_V i p q c k j := by
  intro j hj
  by_cases e : j = w
  · rw [e, pk_us, hx, hw]
  · rw [pk_un e, h j hj]
    exact pk_un (by rw [← hw]; exact e)
theorem td_V_re {i p q : Int32} {c : Nat} {k : Nat} {a : Nat → Int32} {w : Nat} {x : Int32} (h : ∀ j, j < 14 → a j = td_V i p q c k j) (hw : w = td_W c (k + 1)) (hx : x = td_X p q (k + 1)) : ∀ j, j < 14 → upd a w x j = td_V i p q c (k + 1) j := by
  rw [hw]
  exact td_up h hx
end
section
theorem td_undo {post : St2 → Prop} {i p q : Int32} {c : Nat} {n m k : Nat} {u : St2} (h8 : c < 8) (hm : m ≤ 3) (hk : k + 1 ≤ m) (h : td_H i p q c n m (k + 1) u) (H : ∀ u', td_H i p q c n m k u' → post u') : wpX_undo post u := by
  obtain ⟨f0, f1, f2, f3, a1, a2, a3, a4, a5, a6, a7, a8, a9, a10, a11, a12, a13, a14⟩ := u
  obtain ⟨h0, h1, h2, h3, hP, h5, hS, hT, h12, h14⟩ := h
  subst h2
  obtain ⟨e6, e7, e8, e9⟩ := hS k hk
  have hw := td_W14 (c := c) (s := k + 1) h8
  unfold wpX_undo
  dsimp only
  rw [nI_clamp (show k + 1 < 2 ^ 31 by omega), e6, e7, nI_clamp (show td_W c (k + 1) < 2 ^ 31 by omega)]
  refine ⟨pk_in (k + 1) 201 (by omega), br_f (nI_pos (by omega)) ⟨pk_in (k + 1) 201 (by omega), pk_in (k + 1) 201 (by omega), pk_in (td_W c (k + 1)) 14 hw, nm_e (nm_r (nI_pred k) ?_)⟩⟩
  exact H _ ⟨h0, h1, rfl, h3, hP, td_V_un h5 rfl rfl, hS, hT, h12, h14⟩
theorem td_redo {post : St2 → Prop} {i p q : Int32} {c : Nat} {n m k : Nat} {u : St2} (h8 : c < 8) (hm : m ≤ 3) (hk : k + 1 ≤ m) (h : td_H i p q c n m k u) (H : ∀ u', td_H i p q c n m (k + 1) u' → post u') : wpX_redo post u := by
  obtain ⟨f0, f1, f2, f3, a1, a2, a3, a4, a5, a6, a7, a8, a9, a10, a11, a12, a13, a14⟩ := u
  obtain ⟨h0, h1, h2, h3, hP, h5, hS, hT, h12, h14⟩ := h
  subst h2
  obtain ⟨e6, e7, e8, e9⟩ := hS k hk
  have hw := td_W14 (c := c) (s := k + 1) h8
  unfold wpX_redo
  dsimp only
  refine nm_r (nI_1 k) ?_
  rw [nI_clamp (show k + 1 < 2 ^ 31 by omega), e6, e8, nI_clamp (show td_W c (k + 1) < 2 ^ 31 by omega)]
  refine ⟨pk_in (k + 1) 201 (by omega), br_f (nI_pos (by omega)) ⟨pk_in (k + 1) 201 (by omega), pk_in (k + 1) 201 (by omega), pk_in (td_W c (k + 1)) 14 hw, nm_e ?_⟩⟩
  exact H _ ⟨h0, h1, rfl, h3, hP, td_V_re h5 rfl rfl, hS, hT, h12, h14⟩
theorem td_14 (i : Nat) : (14 : Int32) * nI 0 + nI i = nI i := by
  show nI 14 * nI 0 + nI i = nI i
  rw [pk_mul, nI_add, show 14 * 0 + i = i by omega]
theorem td_fill {f s : Nat → Int32} {i : Nat} {x : Int32} (h : ∀ j, j < i → s j = f j) (hx : x = f i) : ∀ j, j < i + 1 → upd s i x j = f j := by
  intro j hj
  by_cases e : j = i
  · rw [e, pk_us, hx]
  · rw [pk_un e]
    exact h j (by omega)
theorem td_load {post : St2 → Prop} {i p q : Int32} {c : Nat} {n m k : Nat} {u : St2} (h : td_H i p q c n m k u) (H : ∀ u', td_H i p q c n m 0 u' → post u') : wpX_load post u (nI 0) := by
  obtain ⟨f0, f1, f2, f3, a1, a2, a3, a4, a5, a6, a7, a8, a9, a10, a11, a12, a13, a14⟩ := u
  obtain ⟨h0, h1, h2, h3, hP, h5, hS, hT, h12, h14⟩ := h
  unfold wpX_load
  dsimp only
  exact pk_loop (fun g j s => wX_load_2 post (nI 0) f0 f1 f2 f3 g (nI j) a1 a2 a3 a4 s a6 a7 a8 a9 a10 a11 a12 a13 a14) (fun j s => ∀ l, l < j → s l = a14 l) 14 0 a5 (by omega) (fun l hl => absurd hl (by omega))
    (fun g s hs => pk_le 14 14 (fun _ => nm_r (show nI 0 * 50 = nI 0 by decide) (H _ ⟨h0, h1, rfl, h3, hP, fun l hl => (hs l hl).trans (h14 l hl), hS, hT, h12, h14⟩)) (fun z => absurd z (by omega)))
    (fun g j s hj hs hw => pk_le 14 j (fun z => absurd z (by omega)) (fun _ => ⟨pk_in j 70 (by omega) (td_14 j), pk_in j 14 hj, nm_e (nm_r (nI_1 j) (hw _ (by rw [td_14, nI_clamp (show j < 2 ^ 31 by omega)]; exact td_fill hs rfl)))⟩))
theorem td_63 {post : St2 → Prop} {i p q : Int32} {c : Nat} {n m t : Nat} (h8 : c < 8) (hm : m ≤ 3) (ht : t ≤ m) (H : ∀ u', td_H i p q c n m t u' → post u') :
    ∀ (d k : Nat) (u : St2), k + d = t → td_H i p q c n m k u → match u with | (f0, f1, f2, f3, a1, a2, a3, a4, a5, a6, a7, a8, a9, a10, a11, a12, a13, a14) => wX_travel_63 post (nI t) (d + 1) f0 f1 f2 f3 a1 a2 a3 a4 a5 a6 a7 a8 a9 a10 a11 a12 a13 a14 := by
  intro d
  induction d with
  | zero =>
    intro k u hk h
    obtain ⟨f0, f1, f2, f3, a1, a2, a3, a4, a5, a6, a7, a8, a9, a10, a11, a12, a13, a14⟩ := u
    have h2 := h.2.2.1
    exact pk_le t k (fun _ => H _ (by rw [← show k = t by omega]; exact h)) (fun z => absurd z (by omega)) rfl h2
  | succ d ih =>
    intro k u hk h
    obtain ⟨f0, f1, f2, f3, a1, a2, a3, a4, a5, a6, a7, a8, a9, a10, a11, a12, a13, a14⟩ := u
    have h2 := h.2.2.1
    refine pk_le t k (fun z => absurd z (by omega)) (fun _ => td_redo h8 hm (show k + 1 ≤ m by omega) h (fun u' h' => ?_)) rfl h2
    have r := ih (k + 1) u' (by omega) h'
    obtain ⟨f0, f1, f2, f3, a1, a2, a3, a4, a5, a6, a7, a8, a9, a10, a11, a12, a13, a14⟩ := u'
    exact r
theorem td_48 {post : St2 → Prop} {i p q : Int32} {c : Nat} {n m t : Nat} (h8 : c < 8) (hm : m ≤ 3) (ht : t ≤ m) (H : ∀ u', td_H i p q c n m t u' → post u') :
    ∀ (k : Nat) (u : St2), k ≤ m → td_H i p q c n m k u → match u with | (f0, f1, f2, f3, a1, a2, a3, a4, a5, a6, a7, a8, a9, a10, a11, a12, a13, a14) => wX_travel_48 post (nI t) (k + 1) f0 f1 f2 f3 a1 a2 a3 a4 a5 a6 a7 a8 a9 a10 a11 a12 a13 a14 := by
  intro k
  induction k with
  | zero =>
    intro u hk h
    have r := td_63 h8 hm ht H t 0 u (by omega) h
    obtain ⟨f0, f1, f2, f3, a1, a2, a3, a4, a5, a6, a7, a8, a9, a10, a11, a12, a13, a14⟩ := u
    have h2 := h.2.2.1
    exact pk_le 0 t (fun _ => ⟨_, r⟩) (fun z => absurd z (by omega)) h2 rfl
  | succ k ih =>
    intro u hk h
    by_cases g : k + 1 ≤ t
    · have r := td_63 h8 hm ht H (t - (k + 1)) (k + 1) u (by omega) h
      obtain ⟨f0, f1, f2, f3, a1, a2, a3, a4, a5, a6, a7, a8, a9, a10, a11, a12, a13, a14⟩ := u
      have h2 := h.2.2.1
      exact pk_le (k + 1) t (fun _ => ⟨_, r⟩) (fun z => absurd z (by omega)) h2 rfl
    · obtain ⟨f0, f1, f2, f3, a1, a2, a3, a4, a5, a6, a7, a8, a9, a10, a11, a12, a13, a14⟩ := u
      have h2 := h.2.2.1
      refine pk_le (k + 1) t (fun z => absurd z g) (fun _ => td_undo h8 hm hk h (fun u' h' => ?_)) h2 rfl
      have r := ih u' (by omega) h'
      obtain ⟨f0, f1, f2, f3, a1, a2, a3, a4, a5, a6, a7, a8, a9, a10, a11, a12, a13, a14⟩ := u'
      exact r
theorem td_gap {post : Int32 → Prop} {u : St2} {x y : Int32} (H : ∀ r, post r) : wpX_gap post u x y := by
  obtain ⟨f0, f1, f2, f3, a1, a2, a3, a4, a5, a6, a7, a8, a9, a10, a11, a12, a13, a14⟩ := u
  exact br_c (fun _ => H _) (fun _ => H _)
theorem td_travel {post : St2 → Prop} {i p q : Int32} {c : Nat} {n m k t : Nat} {u : St2} (h8 : c < 8) (hm : m ≤ 3) (hk : k ≤ m) (ht : t ≤ m) (h : td_H i p q c n m k u) (H : ∀ u', td_H i p q c n m t u' → post u') : wpX_travel post u (nI t) := by
  have r := td_48 h8 hm ht H k u hk h
  obtain ⟨f0, f1, f2, f3, a1, a2, a3, a4, a5, a6, a7, a8, a9, a10, a11, a12, a13, a14⟩ := u
  have h3 := h.2.2.2.1
  unfold wpX_travel
  dsimp only
  refine ⟨by decide, nm_r (e' := nI 0) ?_ (br_t ?_ ?_)⟩
  · show (nI t + nI 25) / nI 50 = nI 0
    rw [nI_add, pk_div (by omega) (by omega) (by omega), show (t + 25) / 50 = 0 by omega]
  · rw [h3, show nI 0 * 50 = nI 0 by decide]
    exact nI_le (a := 0) (by omega) (by omega)
  · unfold wX_travel_22
    refine td_gap (fun r4 => td_gap (fun r5 => br_c (fun _ => ⟨_, r⟩) (fun _ => td_load h (fun u' h' => ?_))))
    have r' := td_48 h8 hm ht H 0 u' (by omega) h'
    obtain ⟨f0, f1, f2, f3, a1, a2, a3, a4, a5, a6, a7, a8, a9, a10, a11, a12, a13, a14⟩ := u'
    exact ⟨_, r'⟩
end
section
theorem td_store {post : St2 → Prop} {i p q : Int32} {c : Nat} {f0 f1 f2 : Int32} {a1 a2 a3 a4 a5 a6 a7 a8 a9 a10 a11 a12 a13 a14 : Nat → Int32} {m w : Nat} {x : Int32} (h8 : c < 8) (hm : m < 3) (hw : w = td_W c (m + 1)) (hx : x = td_X p q (m + 1)) (h5 : ∀ j, j < 14 → a5 j = td_V i p q c m j) (hS : td_S i p q c m a6 a7 a8 a9) (h12 : ∀ j, j < 14 → a12 j = td_L c m j)
    (H : ∀ b5 b6 b7 b8 b9 b12 : Nat → Int32, (∀ j, j < 14 → b5 j = td_V i p q c (m + 1) j) → td_S i p q c (m + 1) b6 b7 b8 b9 → (∀ j, j < 14 → b12 j = td_L c (m + 1) j) → post (f0, f1, f2, nI (m + 1), a1, a2, a3, a4, b5, b6, b7, b8, b9, a10, a11, b12, a13, a14)) :
    wpX_store post (f0, f1, f2, nI (m + 1), a1, a2, a3, a4, a5, a6, a7, a8, a9, a10, a11, a12, a13, a14) (nI w) x := by
  have hl : w < 14 := by rw [hw]; exact td_W14 h8
  unfold wpX_store
  dsimp only
  refine ⟨pk_in (m + 1) 201 (by omega), nm_e ⟨pk_in w 14 hl, pk_in (m + 1) 201 (by omega), nm_e ⟨pk_in (m + 1) 201 (by omega), nm_e ⟨pk_in w 14 hl, pk_in (m + 1) 201 (by omega), nm_e ⟨pk_in w 14 hl, nm_e ⟨pk_in w 14 hl, nm_e ?_⟩⟩⟩⟩⟩⟩
  rw [nI_clamp (show m + 1 < 2 ^ 31 by omega), nI_clamp (show w < 2 ^ 31 by omega)]
  refine H _ _ _ _ _ _ (td_V_re h5 hw hx) (td_S_add hS ?_ ?_ hx ?_) ?_
  · rw [td_b8 w (by omega), hw]
  · rw [h5 w hl, hw]
  · rw [h12 w hl, td_Lnar (by omega), hw]
  · rw [hw]
    exact td_up h12 (td_s16 (m + 1) (by omega))
theorem td_V15 {i p q : Int32} {c : Nat} : td_V i p q c 1 5 = i := by
  have e : td_V i p q c 1 5 = td_V i p q c 0 5 := pk_un (show 5 ≠ 1 by omega)
  rw [e]
  rfl
theorem td_V11 {i p q : Int32} {c : Nat} : td_V i p q c 1 1 = p := pk_us
theorem td_perform {post : Int32 → St2 → Prop} {i p q : Int32} {c : Nat} {f0 f1 f2 : Int32} {a1 a2 a3 a4 a5 a6 a7 a8 a9 a10 a11 a12 a13 a14 : Nat → Int32} {n m : Nat} (h8 : c < 8) (hc : i &&& 7 = nI c) (hn : n ≤ 3) (hm : m < n) (hP : td_P p q n a1 a2 a3) (h5 : ∀ j, j < 14 → a5 j = td_V i p q c m j) (hS : td_S i p q c m a6 a7 a8 a9) (h12 : ∀ j, j < 14 → a12 j = td_L c m j)
    (H : ∀ b5 b6 b7 b8 b9 b12 : Nat → Int32, (∀ j, j < 14 → b5 j = td_V i p q c (m + 1) j) → td_S i p q c (m + 1) b6 b7 b8 b9 → (∀ j, j < 14 → b12 j = td_L c (m + 1) j) → post (nI (m + 1)) (f0, f1, f2, nI (m + 1), a1, a2, a3, a4, b5, b6, b7, b8, b9, a10, a11, b12, a13, a14)) :
    wpX_perform post (f0, f1, f2, nI (m + 1), a1, a2, a3, a4, a5, a6, a7, a8, a9, a10, a11, a12, a13, a14) (nI m) := by
  obtain ⟨e1, e2, e3⟩ := hP m hm
  unfold wpX_perform
  dsimp only
  rw [nI_clamp (show m < 2 ^ 31 by omega)]
  refine ⟨pk_in m 20 (by omega), nm_r e1 ⟨pk_in m 20 (by omega), nm_r e2 ⟨pk_in m 20 (by omega), nm_r e3 ?_⟩⟩⟩
  rw [nI_1]
  rcases (show m = 0 ∨ m = 1 ∨ m = 2 by omega) with rfl | rfl | rfl
  · refine br_f (by decide) (br_f (by decide) (br_f (by decide) (br_t (by decide) ?_)))
    exact td_store (w := 1) h8 (by omega) rfl rfl h5 hS h12 H
  · have e5 : (td_Y p q 1).toNatClampNeg = 5 := show (5 : Int32).toNatClampNeg = 5 by decide
    have e6 : 6 + (a5 5 &&& 7) = nI (6 + c) := by
      rw [h5 5 (by omega), td_V15, hc, ← nI_add]
      rfl
    refine br_f (by decide) (br_f (by decide) (br_f (by decide) (br_f (by decide) (br_f (by decide) (br_t (by decide) ⟨pk_in 5 14 (by omega), pk_in 1 14 (by omega), ?_⟩)))))
    rw [e5, e6]
    exact td_store (w := 6 + c) h8 (by omega) rfl ((h5 1 (by omega)).trans td_V11) h5 hS h12 H
  · refine br_f (by decide) (br_f (by decide) (br_f (by decide) (br_t (by decide) ?_)))
    exact td_store (w := 1) h8 (by omega) rfl rfl h5 hS h12 H
theorem td_note {post : St2 → Prop} {f0 f1 f2 f3 : Int32} {a1 a2 a3 a4 a5 a6 a7 a8 a9 a10 a11 a12 a13 a14 : Nat → Int32} {r : Nat} (h0 : 0 < r) (hr : r < 20) (hT : td_T r a10 a11 a13) (H : ∀ b10 b11 b13 : Nat → Int32, td_T (r + 1) b10 b11 b13 → post (f0, f1, f2, f3, a1, a2, a3, a4, a5, a6, a7, a8, a9, b10, b11, a12, b13, a14)) : wpX_noteTime post (f0, f1, f2, f3, a1, a2, a3, a4, a5, a6, a7, a8, a9, a10, a11, a12, a13, a14) (nI r) (nI r) := by
  have e : nI r - nI r / nI 50 * nI 50 = nI (r % 50) := pk_rem (by omega) (by omega) (by omega)
  unfold wpX_noteTime
  dsimp only
  refine ⟨pk_in r 201 (by omega), nm_e ⟨pk_in r 21 (by omega), pk_in r 201 (by omega), nm_e ⟨pk_in r 21 (by omega), nm_e ⟨by decide, br_f (fun z => nI_ne0 (n := r % 50) (by omega) (by omega) (e.symm.trans z)) ?_⟩⟩⟩⟩
  rw [nI_clamp (show r < 2 ^ 31 by omega)]
  exact H _ _ _ (td_T_add hr hT)
theorem td_note0 {post : St2 → Prop} {f0 f1 f2 f3 : Int32} {a1 a2 a3 a4 a5 a6 a7 a8 a9 a10 a11 a12 a13 a14 : Nat → Int32} (hT : td_T 0 a10 a11 a13) (H : ∀ b10 b11 b13 b14 : Nat → Int32, td_T 1 b10 b11 b13 → (∀ j, j < 14 → b14 j = a5 j) → post (f0, f1, f2, f3, a1, a2, a3, a4, a5, a6, a7, a8, a9, b10, b11, a12, b13, b14)) : wpX_noteTime post (f0, f1, f2, f3, a1, a2, a3, a4, a5, a6, a7, a8, a9, a10, a11, a12, a13, a14) 0 0 := by
  unfold wpX_noteTime
  dsimp only
  refine ⟨pk_in 0 201 (by omega), nm_e ⟨pk_in 0 21 (by omega), pk_in 0 201 (by omega), nm_e ⟨pk_in 0 21 (by omega), nm_e ⟨by decide, br_t (by decide) ⟨by decide, nm_r (e' := nI 0) (by decide) ?_⟩⟩⟩⟩⟩
  rw [show (0 : Int32).toNatClampNeg = 0 by decide]
  have hT' := td_T_add (by omega) hT
  exact pk_loop (fun g j s => wX_noteTime_44 post (nI 0) f0 f1 f2 f3 g (nI j) a1 a2 a3 a4 a5 a6 a7 a8 a9 (upd a10 0 (0 : Int32).toInt8.toInt32) (upd a11 0 (vp_nar .short (a13 0))) a12 (upd a13 0 (0 : Int32).toInt16.toInt32) s) (fun j s => ∀ l, l < j → s l = a5 l) 14 0 a14 (by omega) (fun l hl => absurd hl (by omega))
    (fun g s hs => pk_le 14 14 (fun _ => H _ _ _ s hT' hs) (fun z => absurd z (by omega)))
    (fun g j s hj hs hw => pk_le 14 j (fun z => absurd z (by omega)) (fun _ => ⟨pk_in j 14 hj, pk_in j 70 (by omega) (td_14 j), nm_e (nm_r (nI_1 j) (hw _ (by rw [td_14, nI_clamp (show j < 2 ^ 31 by omega)]; exact td_fill hs rfl)))⟩))
theorem td_run {post : St2 → Prop} {i p q : Int32} {c : Nat} {n : Nat} (h8 : c < 8) (hc : i &&& 7 = nI c) (hn : n ≤ 3) (H : ∀ u', td_H i p q c n n 0 u' → post u') :
    ∀ (d m : Nat) {f0 f1 f2 f3 : Int32} {a1 a2 a3 a4 a5 a6 a7 a8 a9 a10 a11 a12 a13 a14 : Nat → Int32}, m + d = n → td_P p q n a1 a2 a3 → (∀ j, j < 14 → a5 j = td_V i p q c m j) → td_S i p q c m a6 a7 a8 a9 → td_T (m + 1) a10 a11 a13 → (∀ j, j < 14 → a12 j = td_L c m j) → (∀ j, j < 14 → a14 j = td_V i p q c 0 j) →
      wX_execute_79 post (d + 1) (nI m) 1 (nI n) i f2 (nI m) a1 a2 a3 a4 a5 a6 a7 a8 a9 a10 a11 a12 a13 a14 := by
  intro d
  induction d with
  | zero =>
    intro m f0 f1 f2 f3 a1 a2 a3 a4 a5 a6 a7 a8 a9 a10 a11 a12 a13 a14 hd hP h5 hS hT h12 h14
    have e : m = n := by omega
    subst e
    refine br_f (by decide) (pk_le m m (fun _ => ?_) (fun z => absurd z (by omega)))
    unfold wX_execute_156
    refine td_travel (t := 0) h8 hn (Nat.le_refl m) (Nat.zero_le m) (show td_H i p q c m m m (nI m, i, nI m, nI m, a1, a2, a3, a4, a5, a6, a7, a8, a9, a10, a11, a12, a13, a14) from ⟨rfl, rfl, rfl, rfl, hP, h5, hS, hT, h12, h14⟩) (fun u' h' => ?_)
    have r := H u' h'
    obtain ⟨f0, f1, f2, f3, a1, a2, a3, a4, a5, a6, a7, a8, a9, a10, a11, a12, a13, a14⟩ := u'
    exact r
  | succ d ih =>
    intro m f0 f1 f2 f3 a1 a2 a3 a4 a5 a6 a7 a8 a9 a10 a11 a12 a13 a14 hd hP h5 hS hT h12 h14
    have o8 : ¬ a1 (nI m).toNatClampNeg = 8 := by
      rw [nI_clamp (show m < 2 ^ 31 by omega), (hP m (by omega)).1]
      unfold td_op
      split <;> decide
    refine br_f (by decide) (pk_le n m (fun z => absurd z (by omega)) (fun _ => pk_le 200 m (fun z => absurd z (by omega)) (fun _ => nm_r (nI_1 m) ⟨pk_in (m + 1) 201 (by omega), nm_e ⟨pk_in m 20 (by omega), br_f o8 ?_⟩⟩)))
    rw [nI_clamp (show m + 1 < 2 ^ 31 by omega)]
    unfold wX_execute_137
    refine td_perform h8 hc hn (by omega) hP h5 (td_S_keep hS) h12 (fun b5 b6 b7 b8 b9 b12 g5 gS g12 => ?_)
    refine td_note (by omega) (by omega) hT (fun b10 b11 b13 gT => ?_)
    exact @ih (m + 1) f0 f1 f2 f3 a1 a2 a3 a4 b5 b6 b7 b8 b9 b10 b11 b12 b13 a14 (by omega) hP g5 gS gT g12 h14
theorem td_execute {post : St2 → Prop} {i p q : Int32} {c : Nat} {n : Nat} {u : St2} (h8 : c < 8) (hc : i &&& 7 = nI c) (hn : n ≤ 3) (h : td_K i p q n u) (H : ∀ u', td_H i p q c n n 0 u' → post u') : wpX_execute post u := by
  obtain ⟨f0, f1, f2, f3, a1, a2, a3, a4, a5, a6, a7, a8, a9, a10, a11, a12, a13, a14⟩ := u
  obtain ⟨h0, h1, hP⟩ := h
  subst h0 h1
  unfold wpX_execute
  dsimp only
  refine pk_loop (fun g j s => wX_execute_2 post (nI n) f1 f2 f3 g (nI j) a1 a2 a3 a4 s.1 a6 a7 a8 a9 a10 a11 s.2 a13 a14) (fun j s => (∀ l, l < j → s.1 l = 0) ∧ (∀ l, l < j → s.2 l = 0)) 14 0 (a5, a12) (by omega) ⟨fun l hl => absurd hl (by omega), fun l hl => absurd hl (by omega)⟩ ?_ ?_
  · intro g s hs
    obtain ⟨b5, b12⟩ := s
    obtain ⟨z5, z12⟩ := hs
    refine pk_le 14 14 (fun _ => ?_) (fun z => absurd z (by omega))
    refine pk_loop (fun g j s => wX_execute_30 post (nI n) f1 f2 f3 g (nI j) a1 a2 a3 a4 b5 a6 a7 a8 a9 a10 a11 b12 s a14) (fun j s => ∀ l, l < j → s l = -1) 21 0 a13 (by omega) (fun l hl => absurd hl (by omega)) ?_ ?_
    · intro g b13 z13
      refine pk_le 21 21 (fun _ => nm_e ?_) (fun z => absurd z (by omega))
      refine td_note0 (td_T_0 z13) (fun b10 b11 b13' b14 gT g14 => ⟨n + 1, ?_⟩)
      have g5 : ∀ j, j < 14 → upd b5 5 f1 j = td_V f1 p q c 0 j := by
        intro j hj
        by_cases e : j = 5
        · rw [e, pk_us]
          rfl
        · rw [pk_un e]
          exact (z5 j hj).trans (if_neg e).symm
      exact @td_run post f1 p q c n h8 hc hn H n 0 0 0 0 0 a1 a2 a3 a4 (upd b5 5 f1) a6 a7 a8 a9 b10 b11 b12 b13' b14 (by omega) hP g5 (fun s hs => absurd hs (by omega)) gT z12 (fun j hj => (g14 j hj).trans (g5 j hj))
    · intro g j s hj hs hw
      exact pk_le 21 j (fun z => absurd z (by omega)) (fun _ => ⟨pk_in j 21 hj, nm_e (nm_r (nI_1 j) (hw _ (by rw [nI_clamp (show j < 2 ^ 31 by omega)]; exact td_fill (f := fun _ => -1) hs rfl)))⟩)
  · intro g j s hj hs hw
    obtain ⟨b5, b12⟩ := s
    refine pk_le 14 j (fun z => absurd z (by omega)) (fun _ => ⟨pk_in j 14 hj, nm_e ⟨pk_in j 14 hj, nm_e (nm_r (nI_1 j) ?_)⟩⟩)
    rw [nI_clamp (show j < 2 ^ 31 by omega)]
    exact hw (upd b5 j 0, upd b12 j 0) ⟨td_fill (f := fun _ => 0) hs.1 rfl, td_fill (f := fun _ => 0) hs.2 rfl⟩
end
section
theorem td_isv {post : Int32 → Prop} {u : St2} {x : Int32} (h0 : ¬ x < 0) (h5 : ¬ 5 < x) (H : post 1) : wpX_isVariable post u x := by
  obtain ⟨f0, f1, f2, f3, a1, a2, a3, a4, a5, a6, a7, a8, a9, a10, a11, a12, a13, a14⟩ := u
  exact br_f h0 (br_f h5 H)
theorem td_fits {post : Int32 → Prop} {u : St2} {p q z : Int32} {n : Nat} (hn : n < 3) (H : post 1) : wpX_fits post u (td_op n) 1 (td_Y p q n) z := by
  obtain ⟨f0, f1, f2, f3, a1, a2, a3, a4, a5, a6, a7, a8, a9, a10, a11, a12, a13, a14⟩ := u
  unfold wpX_fits
  dsimp only
  rcases (show n = 0 ∨ n = 1 ∨ n = 2 by omega) with rfl | rfl | rfl
  · exact br_f (by decide) (br_f (by decide) (td_isv (by decide) (by decide) (br_f (by decide) (br_t (by decide) H))))
  · exact br_f (by decide) (br_f (by decide) (td_isv (by decide) (by decide) (br_f (by decide) (br_f (by decide) (br_f (by decide) (td_isv (show ¬ (5 : Int32) < 0 by decide) (show ¬ (5 : Int32) < 5 by decide) (br_f (by decide) (br_t (by decide) H))))))))
  · exact br_f (by decide) (br_f (by decide) (td_isv (by decide) (by decide) (br_f (by decide) (br_t (by decide) H))))
theorem td_P_add {p q : Int32} {n : Nat} {a1 a2 a3 : Nat → Int32} (hn : n < 3) (hP : td_P p q n a1 a2 a3) : td_P p q (n + 1) (upd a1 n (td_op n).toInt8.toInt32) (upd a2 n 1) (upd a3 n (td_Y p q n)) := by
  intro s hs
  by_cases e : s = n
  · rw [e, pk_us, pk_us, pk_us]
    refine ⟨?_, rfl, rfl⟩
    unfold td_op
    split <;> decide
  · rw [pk_un e, pk_un e, pk_un e]
    exact hP s (by omega)
theorem td_emit {post : Int32 → St2 → Prop} {i p q : Int32} {c : Nat} {n : Nat} {u : St2} {o y z : Int32} (h8 : c < 8) (hc : i &&& 7 = nI c) (hn : n < 3) (ho : o = td_op n) (hy : y = td_Y p q n) (h : td_K i p q n u) (H : ∀ u', td_H i p q c (n + 1) (n + 1) 0 u' → post (nI (n + 1)) u') : wpX_emit post u o 1 y z := by
  subst ho hy
  obtain ⟨f0, f1, f2, f3, a1, a2, a3, a4, a5, a6, a7, a8, a9, a10, a11, a12, a13, a14⟩ := u
  obtain ⟨h0, h1, hP⟩ := h
  subst h0
  have o0 : ¬ td_op n < 0 := by unfold td_op; split <;> decide
  have o8 : ¬ 8 < td_op n := by unfold td_op; split <;> decide
  unfold wpX_emit
  dsimp only
  refine pk_lt n 20 (fun _ => br_f o0 (br_f o8 (td_fits hn (br_f (by decide) ⟨pk_in n 20 (by omega), nm_e ⟨pk_in n 20 (by omega), nm_e ⟨pk_in n 20 (by omega), nm_e ⟨pk_in n 20 (by omega), nm_e (nm_r (nI_1 n) ?_)⟩⟩⟩⟩)))) (fun z => absurd z (by omega))
  rw [nI_clamp (show n < 2 ^ 31 by omega)]
  refine td_execute h8 hc (show n + 1 ≤ 3 by omega) ⟨rfl, h1, td_P_add hn hP⟩ (fun u' h' => ?_)
  have r := H u' h'
  obtain ⟨f0, f1, f2, f3, a1, a2, a3, a4, a5, a6, a7, a8, a9, a10, a11, a12, a13, a14⟩ := u'
  have e0 := h'.1
  subst e0
  exact r
theorem td_input {post : Int32 → St2 → Prop} {i p q : Int32} {c : Nat} {k : Int32} {n : Nat} {u : St2} (h8 : c < 8) (hc : i &&& 7 = nI c) (hn : n ≤ 3) (h : td_K k p q n u) (H : ∀ u', td_H i p q c n n 0 u' → post (nI n) u') : wpX_input post u i := by
  obtain ⟨f0, f1, f2, f3, a1, a2, a3, a4, a5, a6, a7, a8, a9, a10, a11, a12, a13, a14⟩ := u
  obtain ⟨h0, h1, hP⟩ := h
  unfold wpX_input
  dsimp only
  refine td_execute h8 hc hn ⟨h0, rfl, hP⟩ (fun u' h' => ?_)
  have r := H u' h'
  obtain ⟨f0, f1, f2, f3, a1, a2, a3, a4, a5, a6, a7, a8, a9, a10, a11, a12, a13, a14⟩ := u'
  have e3 := h'.2.2.2.1
  subst e3
  exact r
theorem td_goTo {post : Int32 → St2 → Prop} {i p q : Int32} {c : Nat} {t : Int32} {u : St2} (h8 : c < 8) (h : td_H i p q c 3 3 0 u) (H1 : ∀ k, k ≤ 3 → t = nI k → ∀ u', td_H i p q c 3 3 k u' → post (nI k) u') (H2 : t < 0 ∨ ¬ t ≤ 3 → post (-1) u) : wpX_goTo post u t := by
  have hh := h
  obtain ⟨f0, f1, f2, f3, a1, a2, a3, a4, a5, a6, a7, a8, a9, a10, a11, a12, a13, a14⟩ := u
  have e3 := h.2.2.2.1
  subst e3
  unfold wpX_goTo
  dsimp only
  refine br_c (fun z => H2 (Or.inl z)) (fun z => br_c (fun g => ?_) (fun g => H2 (Or.inr g)))
  obtain ⟨k, hk, rfl⟩ := nI_of2 (M := nI 3) (n := 3) (by decide) z g
  refine td_travel h8 (Nat.le_refl 3) (Nat.zero_le 3) hk hh (fun u' h' => ?_)
  have r := H1 k hk rfl u' h'
  obtain ⟨f0, f1, f2, f3, a1, a2, a3, a4, a5, a6, a7, a8, a9, a10, a11, a12, a13, a14⟩ := u'
  obtain ⟨-, -, -, -, -, -, -, hT, -, -⟩ := h'
  refine ⟨pk_in k 201 (by omega), ?_⟩
  dsimp only
  rw [nI_clamp (show k < 2 ^ 31 by omega), (hT.1 k (by omega)).1]
  exact r
theorem td_variable {post : Int32 → Prop} {i p q : Int32} {c : Nat} {n m k : Nat} {u : St2} (h : td_H i p q c n m k u) (H : post (td_V i p q c k 1)) : wpX_variable post u 1 := by
  obtain ⟨f0, f1, f2, f3, a1, a2, a3, a4, a5, a6, a7, a8, a9, a10, a11, a12, a13, a14⟩ := u
  obtain ⟨-, -, -, -, -, h5, -, -, -, -⟩ := h
  unfold wpX_variable
  dsimp only
  refine td_isv (by decide) (by decide) (br_f (by decide) ⟨pk_in 1 14 (by omega), ?_⟩)
  rw [show (1 : Int32).toNatClampNeg = 1 by decide, h5 1 (by omega)]
  exact H
theorem td_6 (e : Nat) : (6 : Int32) + nI e = nI (6 + e) := nI_add 6 e
theorem td_cell {post : Int32 → Prop} {i p q : Int32} {c : Nat} {n m k e : Nat} {u : St2} (he : e < 8) (h : td_H i p q c n m k u) (H : post (td_V i p q c k (6 + e))) : wpX_cell post u (nI e) := by
  obtain ⟨f0, f1, f2, f3, a1, a2, a3, a4, a5, a6, a7, a8, a9, a10, a11, a12, a13, a14⟩ := u
  obtain ⟨-, -, -, -, -, h5, -, -, -, -⟩ := h
  unfold wpX_cell
  dsimp only
  refine br_f (nI_pos (by omega)) (br_t (nI_le (b := 7) (by omega) (by decide)) ?_)
  rw [td_6, nI_clamp (show 6 + e < 2 ^ 31 by omega), h5 (6 + e) (by omega)]
  exact ⟨pk_in (6 + e) 14 (by omega), H⟩
theorem td_wup7 {post : Int32 → Prop} {i p q : Int32} {c : Nat} {f0 f1 f2 f3 : Int32} {a1 a2 a3 a4 a5 a6 a7 a8 a9 a10 a11 a12 a13 a14 : Nat → Int32} {k w M : Nat} (hM : M ≤ 3) (h2 : f2 = nI k) (hS : td_S i p q c M a6 a7 a8 a9) (H : post (td_L c k w)) :
    ∀ m g, k ≤ m → m ≤ M → m - k < g → wX_writeUpTo_7 post f0 f1 f2 f3 a1 a2 a3 a4 a5 a6 a7 a8 a9 a10 a11 a12 a13 a14 g (td_L c m w) := by
  intro m
  induction m with
  | zero =>
    intro g hk hm hg
    have ek : k = 0 := by omega
    subst ek
    obtain ⟨g, rfl⟩ : ∃ g', g = g' + 1 := ⟨g - 1, by omega⟩
    exact pk_le 0 0 (fun _ => H) (fun z => absurd z (by omega)) rfl h2
  | succ m ih =>
    intro g hk hm hg
    obtain ⟨g, rfl⟩ : ∃ g', g = g' + 1 := ⟨g - 1, by omega⟩
    by_cases e : k = m + 1
    · subst e
      obtain ⟨r, hr, er⟩ := td_Ln c (m + 1) w
      exact pk_le r (m + 1) (fun _ => H) (fun z => absurd z (by omega)) er h2
    · by_cases ew : w = td_W c (m + 1)
      · have el : td_L c (m + 1) w = nI (m + 1) := by rw [ew]; exact pk_us
        have e9 := (hS m (by omega)).2.2.2
        rw [← ew] at e9
        rw [el]
        refine pk_le (m + 1) k (fun z => absurd z (by omega)) (fun _ => ⟨pk_in (m + 1) 201 (by omega), nm_r (e' := td_L c m w) ?_ (ih g (by omega) (by omega) (by omega))⟩) rfl h2
        rw [nI_clamp (show m + 1 < 2 ^ 31 by omega)]
        exact e9
      · have el : td_L c (m + 1) w = td_L c m w := pk_un ew
        rw [el]
        exact ih (g + 1) (by omega) (by omega) (by omega)
theorem td_wup {post : Int32 → Prop} {i p q : Int32} {c : Nat} {n m k w : Nat} {u : St2} (hm : m ≤ 3) (hk : k ≤ m) (hw : w < 14) (h : td_H i p q c n m k u) (H : post (td_L c k w)) : wpX_writeUpTo post u (nI w) := by
  obtain ⟨f0, f1, f2, f3, a1, a2, a3, a4, a5, a6, a7, a8, a9, a10, a11, a12, a13, a14⟩ := u
  obtain ⟨-, -, h2, -, -, -, hS, -, h12, -⟩ := h
  unfold wpX_writeUpTo
  dsimp only
  refine ⟨pk_in w 14 hw, nm_r (e' := td_L c m w) ?_ ⟨m - k + 1, td_wup7 hm h2 hS H m _ hk (Nat.le_refl m) (by omega)⟩⟩
  rw [nI_clamp (show w < 2 ^ 31 by omega), h12 w hw]
theorem td_lastWrite {post : Int32 → Prop} {i p q : Int32} {c : Nat} {n m k e : Nat} {u : St2} (hm : m ≤ 3) (hk : k ≤ m) (he : e < 8) (h : td_H i p q c n m k u) (H : post (td_L c k (6 + e))) : wpX_lastWrite post u 1 (nI e) := by
  have hh := h
  obtain ⟨f0, f1, f2, f3, a1, a2, a3, a4, a5, a6, a7, a8, a9, a10, a11, a12, a13, a14⟩ := u
  unfold wpX_lastWrite
  dsimp only
  refine br_f (by decide) (br_t (by decide) (br_f (nI_pos (by omega)) (br_f (by decide) ?_)))
  unfold wX_lastWrite_26
  refine br_t (nI_le (b := 7) (by omega) (by decide)) ?_
  rw [show (6 : Int32) * 1 = 6 by decide, td_6]
  exact td_wup hm hk (show 6 + e < 14 by omega) hh H
theorem td_back {post : Int32 → St2 → Prop} {i p q : Int32} {c : Nat} {n m k r : Nat} {u : St2} (h8 : c < 8) (hm : m ≤ 3) (hk : k ≤ m) (h : td_H i p q c n m k u) (hr : r ≤ m) (er : td_L c k 1 = nI r) (H0 : r = 0 → post (-3) u) (H1 : ∀ s, r = s + 1 → ∀ u', td_H i p q c n m s u' → post (nI s) u') : wpX_backBeforeWrite post u 1 := by
  have hh := h
  obtain ⟨f0, f1, f2, f3, a1, a2, a3, a4, a5, a6, a7, a8, a9, a10, a11, a12, a13, a14⟩ := u
  unfold wpX_backBeforeWrite
  dsimp only
  refine td_isv (by decide) (by decide) (br_f (by decide) (td_wup (w := 1) hm hk (by omega) hh ?_))
  rw [er]
  rcases Nat.eq_zero_or_pos r with z | z
  · subst z
    exact br_t rfl (H0 rfl)
  · obtain ⟨s, rfl⟩ : ∃ s, r = s + 1 := ⟨r - 1, by omega⟩
    refine br_f (nI_ne0 (by omega) (by omega)) ?_
    rw [nI_pred]
    refine td_travel h8 hm hk (show s ≤ m by omega) hh (fun u' h' => ?_)
    have t := H1 s rfl u' h'
    obtain ⟨f0, f1, f2, f3, a1, a2, a3, a4, a5, a6, a7, a8, a9, a10, a11, a12, a13, a14⟩ := u'
    exact t
theorem td_runTo {post : Int32 → St2 → Prop} {i p q : Int32} {c : Nat} {n k : Nat} {u : St2} (h8 : c < 8) (hk : k < 3) (h : td_H i p q c n 3 k u) (H : ∀ u', td_H i p q c n 3 3 u' → post (nI 3) u') : wpX_runTo post u 3 := by
  have hh := h
  obtain ⟨f0, f1, f2, f3, a1, a2, a3, a4, a5, a6, a7, a8, a9, a10, a11, a12, a13, a14⟩ := u
  obtain ⟨-, -, h2, -, -, -, -, hT, -, -⟩ := h
  unfold wpX_runTo
  dsimp only
  refine br_f (by decide) (br_t (by decide) ⟨pk_in 3 21 (by omega), nm_r (e' := nI 3) ?_ ⟨2, ?_⟩⟩)
  · rw [show (3 : Int32).toNatClampNeg = 3 by decide, hT.2 3 (by omega), if_pos (by omega)]
  · refine pk_le 3 k (fun z => absurd z (by omega)) (fun _ => ⟨pk_in 3 201 (by omega), nm_r (e' := -1) ?_ ?_⟩) rfl h2
    · rw [nI_clamp (show 3 < 2 ^ 31 by omega)]
      exact (hT.1 3 (by omega)).2
    · refine br_t ?_ (br_t (by decide) ?_)
      · rw [h2]
        exact Int32.le_trans (show (-1 : Int32) ≤ 0 by decide) (nI_pos' (by omega))
      · refine td_travel h8 (Nat.le_refl 3) (by omega) (Nat.le_refl 3) hh (fun u' h' => ?_)
        have t := H u' h'
        obtain ⟨f0, f1, f2, f3, a1, a2, a3, a4, a5, a6, a7, a8, a9, a10, a11, a12, a13, a14⟩ := u'
        exact t
end
section
theorem td_V1 {i p q : Int32} {c : Nat} {k : Nat} (hk : k ≤ 3) : td_V i p q c k 1 = if k = 0 then 0 else if 3 ≤ k then q else p := by
  rcases (show k = 0 ∨ k = 1 ∨ k = 2 ∨ k = 3 by omega) with rfl | rfl | rfl | rfl
  · rfl
  · exact td_V11
  · exact (pk_un (show 1 ≠ 6 + c by omega)).trans td_V11
  · exact pk_us
theorem td_V6 {i p q : Int32} {c : Nat} {k e : Nat} (hk : k ≤ 3) : td_V i p q c k (6 + e) = if k < 2 then 0 else if e = c then p else 0 := by
  have n1 : 6 + e ≠ 1 := by omega
  have v0 : td_V i p q c 0 (6 + e) = 0 := if_neg (by omega)
  have v1 : td_V i p q c 1 (6 + e) = 0 := (pk_un n1).trans v0
  have v2 : td_V i p q c 2 (6 + e) = if e = c then p else 0 := by
    by_cases h : e = c
    · rw [if_pos h, h]
      exact pk_us
    · rw [if_neg h]
      exact (pk_un (show 6 + e ≠ 6 + c by omega)).trans v1
  have v3 : td_V i p q c 3 (6 + e) = if e = c then p else 0 := (pk_un n1).trans v2
  rcases (show k = 0 ∨ k = 1 ∨ k = 2 ∨ k = 3 by omega) with rfl | rfl | rfl | rfl
  · exact v0
  · exact v1
  · exact v2
  · exact v3
theorem td_L6 {c k e : Nat} (hk : k ≤ 3) : td_L c k (6 + e) = if k < 2 then 0 else if e = c then nI 2 else 0 := by
  have n1 : 6 + e ≠ 1 := by omega
  have v1 : td_L c 1 (6 + e) = 0 := (pk_un n1).trans rfl
  have v2 : td_L c 2 (6 + e) = if e = c then nI 2 else 0 := by
    by_cases h : e = c
    · rw [if_pos h, h]
      exact pk_us
    · rw [if_neg h]
      exact (pk_un (show 6 + e ≠ 6 + c by omega)).trans v1
  have v3 : td_L c 3 (6 + e) = if e = c then nI 2 else 0 := (pk_un n1).trans v2
  rcases (show k = 0 ∨ k = 1 ∨ k = 2 ∨ k = 3 by omega) with rfl | rfl | rfl | rfl
  · rfl
  · exact v1
  · exact v2
  · exact v3
theorem td_L1 {c k : Nat} (hk : k ≤ 3) : td_L c k 1 = nI (if k = 0 then 0 else if 3 ≤ k then 3 else 1) := by
  rcases (show k = 0 ∨ k = 1 ∨ k = 2 ∨ k = 3 by omega) with rfl | rfl | rfl | rfl
  · rfl
  · exact pk_us
  · exact (pk_un (show 1 ≠ 6 + c by omega)).trans pk_us
  · exact pk_us
/-- runTo(3) == 3 && variable(1) == q -/
theorem td_l255 {post : Int32 → St0 → Prop} {i p q : Int32} {c : Nat} {mc ms kc ks k : Nat} {z : Int32} {f0 f1 f2 f3 : Int32} {a1 a2 a3 a4 a5 a6 a7 a8 a9 a10 a11 a12 a13 a14 : Nat → Int32} (hp : post 1 ()) (h8 : c < 8) (hk : k < 3) (h : td_H i p q c 3 3 k (f0, f1, f2, f3, a1, a2, a3, a4, a5, a6, a7, a8, a9, a10, a11, a12, a13, a14)) : wL_lawOf_255 post mc ms q z z kc ks f0 f1 f2 f3 a1 a2 a3 a4 a5 a6 a7 a8 a9 a10 a11 a12 a13 a14 := by
  unfold wL_lawOf_255
  refine br_t rfl (td_runTo h8 hk h (fun u' h' => ?_))
  obtain ⟨f0, f1, f2, f3, a1, a2, a3, a4, a5, a6, a7, a8, a9, a10, a11, a12, a13, a14⟩ := u'
  refine br_t rfl (td_variable h' ?_)
  rw [td_V1 (Nat.le_refl 3)]
  exact br_t rfl hp
theorem td_l223 {post : Int32 → St0 → Prop} {i p q : Int32} {c : Nat} {mc ms kc ks k : Nat} {z : Int32} {f0 f1 f2 f3 : Int32} {a1 a2 a3 a4 a5 a6 a7 a8 a9 a10 a11 a12 a13 a14 : Nat → Int32} (hp : post 1 ()) (h8 : c < 8) (hk : k ≤ 3) (h : td_H i p q c 3 3 k (f0, f1, f2, f3, a1, a2, a3, a4, a5, a6, a7, a8, a9, a10, a11, a12, a13, a14)) : wL_lawOf_223 post mc ms q (nI k) z z kc ks f0 f1 f2 f3 a1 a2 a3 a4 a5 a6 a7 a8 a9 a10 a11 a12 a13 a14 := by
  unfold wL_lawOf_223
  refine br_t rfl (td_back h8 (Nat.le_refl 3) hk h ?_ (td_L1 hk) (fun hr => ?_) (fun s hr u' h' => ?_))
  · split
    · omega
    · split <;> omega
  · have e : k = 0 := by
      by_cases e : k = 0
      · exact e
      · rw [if_neg e] at hr
        split at hr <;> omega
    subst e
    exact br_t rfl (td_l255 hp h8 (by omega) h)
  · obtain ⟨f0, f1, f2, f3, a1, a2, a3, a4, a5, a6, a7, a8, a9, a10, a11, a12, a13, a14⟩ := u'
    by_cases e : k = 0
    · rw [if_pos e] at hr
      omega
    · rw [if_neg e] at hr
      refine br_f (nI_ne0 (by omega) (by omega)) ?_
      by_cases g : 3 ≤ k
      · rw [if_pos g] at hr
        have es : s = 2 := by omega
        subst es
        exact br_t (nI_le (a := 3) g (by omega)) (td_l255 hp h8 (by omega) h')
      · rw [if_neg g] at hr
        have es : s = 0 := by omega
        subst es
        exact br_f (nI_ge (b := 3) (by omega) (by decide)) (td_l255 hp h8 (by omega) h')
theorem td_l192 {post : Int32 → St0 → Prop} {i p q : Int32} {c : Nat} {mc ms kc ks k e : Nat} {z : Int32} {f0 f1 f2 f3 : Int32} {a1 a2 a3 a4 a5 a6 a7 a8 a9 a10 a11 a12 a13 a14 : Nat → Int32} (hp : post 1 ()) (h8 : c < 8) (he : e < 8) (hk : k ≤ 3) (h : td_H i p q c 3 3 k (f0, f1, f2, f3, a1, a2, a3, a4, a5, a6, a7, a8, a9, a10, a11, a12, a13, a14)) : wL_lawOf_192 post mc ms q (nI c) (nI e) (nI k) z z kc ks f0 f1 f2 f3 a1 a2 a3 a4 a5 a6 a7 a8 a9 a10 a11 a12 a13 a14 := by
  unfold wL_lawOf_192
  refine br_t rfl (td_lastWrite (Nat.le_refl 3) hk he h ?_)
  rw [td_L6 hk]
  refine pk_lt k 2 (fun g => ?_) (fun g => pk_eq e c (fun d => ?_) (fun d => ?_))
  · rw [if_pos g]
    exact td_l223 hp h8 hk h
  · rw [if_neg (by omega), if_pos d]
    exact td_l223 (z := nI 2) hp h8 hk h
  · rw [if_neg (by omega), if_neg d]
    exact td_l223 hp h8 hk h
theorem td_l162 {post : Int32 → St0 → Prop} {i p q : Int32} {c : Nat} {mc ms kc ks k e : Nat} {z : Int32} {f0 f1 f2 f3 : Int32} {a1 a2 a3 a4 a5 a6 a7 a8 a9 a10 a11 a12 a13 a14 : Nat → Int32} (hp : post 1 ()) (h8 : c < 8) (he : e < 8) (hk : k ≤ 3) (h : td_H i p q c 3 3 k (f0, f1, f2, f3, a1, a2, a3, a4, a5, a6, a7, a8, a9, a10, a11, a12, a13, a14)) : wL_lawOf_162 post mc ms p q (nI c) (nI e) (nI k) z z kc ks f0 f1 f2 f3 a1 a2 a3 a4 a5 a6 a7 a8 a9 a10 a11 a12 a13 a14 := by
  unfold wL_lawOf_162
  refine br_t rfl (td_cell he h ?_)
  rw [td_V6 hk]
  refine pk_lt k 2 (fun g => ?_) (fun g => pk_eq e c (fun d => ?_) (fun d => ?_))
  · rw [if_pos g]
    exact td_l192 hp h8 he hk h
  · rw [if_neg (by omega), if_pos d]
    exact td_l192 hp h8 he hk h
  · rw [if_neg (by omega), if_neg d]
    exact td_l192 hp h8 he hk h
theorem td_l134 {post : Int32 → St0 → Prop} {i p q : Int32} {c : Nat} {mc ms kc ks k e : Nat} {f0 f1 f2 f3 : Int32} {a1 a2 a3 a4 a5 a6 a7 a8 a9 a10 a11 a12 a13 a14 : Nat → Int32} (hp : post 1 ()) (h8 : c < 8) (he : e < 8) (hk : k ≤ 3) (h : td_H i p q c 3 3 k (f0, f1, f2, f3, a1, a2, a3, a4, a5, a6, a7, a8, a9, a10, a11, a12, a13, a14)) : wL_lawOf_134 post mc ms p q (nI c) (nI e) (nI k) kc ks f0 f1 f2 f3 a1 a2 a3 a4 a5 a6 a7 a8 a9 a10 a11 a12 a13 a14 := by
  unfold wL_lawOf_134
  refine td_variable h ?_
  rw [td_V1 hk]
  refine pk_eq k 0 (fun g => ?_) (fun g => pk_le 3 k (fun d => ?_) (fun d => ?_))
  · rw [if_pos g]
    exact td_l162 hp h8 he hk h
  · rw [if_neg g, if_pos d]
    exact td_l162 hp h8 he hk h
  · rw [if_neg g, if_neg (by omega)]
    exact td_l162 hp h8 he hk h
theorem td_l24 {post : Int32 → St0 → Prop} {x0 x1 x2 x3 x4 z0 : Int32} (hp : post 1 ()) (hz : (∃ k : Nat, k ≤ 3 ∧ x3 = nI k ∧ z0 = nI k) ∨ ((x3 < 0 ∨ ¬ x3 ≤ 3) ∧ ¬ x3 = z0)) : wL_lawOf_24 post 480 7680 x0 x1 x2 x3 x4 (x0 &&& 7) z0 0 0 := by
  obtain ⟨c, h8, hc⟩ := pk_andE x0 (m := 7) 3 (by decide)
  obtain ⟨e, he, ec⟩ := pk_andE x4 (m := 7) 3 (by decide)
  have c0 : (0 : Int32) &&& 7 = nI 0 := by decide
  have h8' : c < 8 := h8
  have he' : e < 8 := he
  rw [hc]
  unfold wL_lawOf_24
  refine nm_r ec ⟨by omega, by omega, 14, 1405, by omega, by omega, ?_⟩
  unfold wpX_init
  dsimp only
  refine ⟨by omega, by omega, by omega, by omega, by omega, by omega, by omega, by omega, by omega, by omega, by omega, by omega, by omega, by omega, by omega, by omega, by omega, by omega, by omega, by omega, by omega, by omega, by omega, by omega, by omega, by omega, by omega, by omega, ?_⟩
  refine td_execute (i := 0) (p := x1) (q := x2) (c := 0) (n := 0) (by omega) c0 (by omega) ⟨rfl, rfl, fun s hs => absurd hs (by omega)⟩ (fun u h => ?_)
  have hK := td_HK h
  obtain ⟨f0, f1, f2, f3, a1, a2, a3, a4, a5, a6, a7, a8, a9, a10, a11, a12, a13, a14⟩ := u
  refine td_emit (i := 0) (p := x1) (q := x2) (c := 0) (n := 0) (by omega) c0 (by omega) rfl rfl hK (fun u h => ?_)
  have hK := td_HK h
  obtain ⟨f0, f1, f2, f3, a1, a2, a3, a4, a5, a6, a7, a8, a9, a10, a11, a12, a13, a14⟩ := u
  refine br_t rfl (td_emit (i := 0) (p := x1) (q := x2) (c := 0) (n := 1) (by omega) c0 (by omega) rfl rfl hK (fun u h => ?_))
  have hK := td_HK h
  obtain ⟨f0, f1, f2, f3, a1, a2, a3, a4, a5, a6, a7, a8, a9, a10, a11, a12, a13, a14⟩ := u
  refine br_t rfl (td_emit (i := 0) (p := x1) (q := x2) (c := 0) (n := 2) (by omega) c0 (by omega) rfl rfl hK (fun u h => ?_))
  have hK := td_HK h
  obtain ⟨f0, f1, f2, f3, a1, a2, a3, a4, a5, a6, a7, a8, a9, a10, a11, a12, a13, a14⟩ := u
  refine br_t rfl (td_input (c := c) h8' hc (by omega) hK (fun u h => ?_))
  obtain ⟨f0, f1, f2, f3, a1, a2, a3, a4, a5, a6, a7, a8, a9, a10, a11, a12, a13, a14⟩ := u
  refine br_t rfl (td_goTo h8' h (fun k hk ek u h => ?_) (fun hb => ?_))
  · obtain ⟨f0, f1, f2, f3, a1, a2, a3, a4, a5, a6, a7, a8, a9, a10, a11, a12, a13, a14⟩ := u
    rcases hz with ⟨k', hk', e1, e2⟩ | ⟨hb, -⟩
    · have ekk : k = k' := (nI_eq (by omega) (by omega)).mp (ek.symm.trans e1)
      subst ekk ek e2
      refine br_t rfl ?_
      unfold wL_lawOf_117
      exact br_t rfl (br_t rfl (td_l134 hp h8' he' hk h))
    · subst ek
      rcases hb with hb | hb
      · exact absurd hb (nI_pos (by omega))
      · exact absurd (nI_le (b := 3) hk (by decide)) hb
  · rcases hz with ⟨k', hk', e1, e2⟩ | ⟨-, hne⟩
    · subst e1
      rcases hb with hb | hb
      · exact absurd hb (nI_pos (by omega))
      · exact absurd (nI_le (b := 3) hk' (by decide)) hb
    · refine br_f hne ?_
      unfold wL_lawOf_117
      exact br_t rfl (br_f hne (td_l134 (k := 0) hp h8' he' (by omega) h))
theorem td_lawOf {post : Int32 → St0 → Prop} {x0 x1 x2 x3 x4 : Int32} (hp : post 1 ()) : wpL_lawOf post 480 7680 () x0 x1 x2 x3 x4 := by
  unfold wpL_lawOf
  refine nm_e (br_c (fun g => br_c (fun d => td_l24 hp (Or.inl ?_)) (fun d => td_l24 hp (Or.inr ⟨Or.inr d, ?_⟩))) (fun g => td_l24 hp (Or.inr ⟨Or.inl ?_, ?_⟩)))
  · obtain ⟨k, hk, ek⟩ := nI_of2 (x := x3) (M := 3) (n := 3) (by decide) (Int32.not_lt.mpr g) d
    exact ⟨k, hk, ek, ek⟩
  · intro z
    exact d (by rw [z]; decide)
  · exact Int32.not_le.mp g
  · intro z
    exact g (by rw [z]; decide)
theorem td_cellAt {post : Int32 → Prop} {L : Nat} {xs : Nat → Int32} {k : Nat} (hL : L ≤ 5) (hk : k < 5) (H : ∀ r, post r) : wpL_cellAt post L xs () (nI k) :=
  pk_le L k (fun _ => H _) (fun z => ⟨pk_in k L z, H _⟩)
theorem i_vc (xs : Nat → Int32) (L : Nat) (hL : L ≤ 5) : wpL_law (fun r => r = 1) L xs := by
  unfold wpL_law
  exact td_cellAt (k := 0) hL (by omega) (fun r1 => td_cellAt (k := 1) hL (by omega) (fun r2 => td_cellAt (k := 2) hL (by omega) (fun r3 => td_cellAt (k := 3) hL (by omega) (fun r4 => td_cellAt (k := 4) hL (by omega) (fun r5 => ⟨480, 7680, by omega, by omega, td_lawOf rfl⟩)))))
end
