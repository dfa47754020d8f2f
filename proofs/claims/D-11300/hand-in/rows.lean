section
/-- movable without the first place -/
def tq_m0 (sz p : Int32) : Int32 := (p &&& (((1 : Int32) <<< (sz &&& 31)) - 1)) &&& (-2)
/-- movable, the first place alone -/
def tq_m1 (sz p : Int32) : Int32 := (p &&& (((1 : Int32) <<< (sz &&& 31)) - 1)) &&& 1
def tq_s (x : Int32) : Int32 := x <<< ((1 : Int32) &&& 31)
/-- leaveOut: the new one, the new two -/
def tq_lO (sz n o : Int32) : Int32 := o ||| tq_s (tq_m0 sz n)
def tq_lT (sz n o t : Int32) : Int32 := (t ||| tq_s (tq_m0 sz (tq_lO sz n o))) ||| tq_s (tq_m1 sz n)
/-- advance ahead of leaveOut -/
def tq_aN (n sm : Int32) : Int32 := tq_s (n &&& sm)
def tq_aO (sz n o sm : Int32) : Int32 := (tq_s (o &&& sm) ||| tq_s (tq_m0 sz n)) ||| (n &&& (-2))
def tq_aT (sz n o t sm : Int32) : Int32 := ((tq_s (t &&& sm) ||| tq_s (tq_m0 sz o)) ||| (o &&& (-2))) ||| (tq_s (tq_m1 sz n) ||| (n &&& 1))
/-- reached -/
def tq_re (sz n o t : Int32) : Int32 := if (n &&& ((1 : Int32) <<< (sz &&& 31))) = 0 then (if (o &&& ((1 : Int32) <<< (sz &&& 31))) = 0 then (if (t &&& ((1 : Int32) <<< (sz &&& 31))) = 0 then 3 else 2) else 1) else 0
/-- the three sets: after leaveOut, after advance, what is reached -/
def tq_lv (sz : Int32) (x : Int32 × Int32 × Int32) : Int32 × Int32 × Int32 := (x.1, tq_lO sz x.1 x.2.1, tq_lT sz x.1 x.2.1 x.2.2)
def tq_go (sz sm : Int32) (x : Int32 × Int32 × Int32) : Int32 × Int32 × Int32 := tq_lv sz (tq_aN x.1 sm, tq_aO sz x.1 x.2.1 sm, tq_aT sz x.1 x.2.1 x.2.2 sm)
def tq_rx (sz : Int32) (x : Int32 × Int32 × Int32) : Int32 := tq_re sz x.1 x.2.1 x.2.2
def tq_mn (x y : Int32) : Int32 := if x ≤ y then x else y
/-- typosOf a word of two symbols, whose places in the query are h0 and h1 -/
def tq_x0 (sz : Int32) : Int32 × Int32 × Int32 := tq_lv sz (1, 0, 0)
def tq_ty (sz h0 h1 : Int32) : Int32 := tq_mn (tq_mn (tq_rx sz (tq_x0 sz)) (tq_rx sz (tq_go sz h0 (tq_x0 sz)))) (tq_rx sz (tq_go sz h1 (tq_go sz h0 (tq_x0 sz))))
/-- the places among the query's first k that have the symbol s -/
def tq_hv (q : Nat → Int32) : Nat → Nat → Int32
  | 0, _ => 0
  | k + 1, s => if (q k).toNatClampNeg = s then ((tq_hv q k s) ||| ((1 : Int32) <<< (nI k &&& 31))).toInt8.toInt32 else tq_hv q k s
/-- what learn stores for word 0 and finds -/
def tq_T (q : Nat → Int32) (k a b : Nat) : Int32 := (tq_ty (nI k) (tq_hv q k a) (tq_hv q k b)).toInt8.toInt32
def tq_fg (k : Nat) : Int32 := if 3 ≤ k then (if 5 ≤ k then 2 else 1) else 0
def tq_F (q : Nat → Int32) (k a b : Nat) : Int32 := if tq_fg k < tq_T q k a b then 0 else 1
theorem tq_F01 (q : Nat → Int32) (k a b : Nat) : tq_F q k a b = 0 ∨ tq_F q k a b = 1 := by
  unfold tq_F
  by_cases h : tq_fg k < tq_T q k a b
  · exact Or.inl (if_pos h)
  · exact Or.inr (if_neg h)
theorem tq_hvC {q q' : Nat → Int32} {k : Nat} (h : ∀ j, j < k → q j = q' j) (s : Nat) : tq_hv q k s = tq_hv q' k s := by
  induction k with
  | zero => rfl
  | succ k ih =>
    have e := ih (fun j hj => h j (by omega))
    show (if (q k).toNatClampNeg = s then ((tq_hv q k s) ||| ((1 : Int32) <<< (nI k &&& 31))).toInt8.toInt32 else tq_hv q k s) = (if (q' k).toNatClampNeg = s then ((tq_hv q' k s) ||| ((1 : Int32) <<< (nI k &&& 31))).toInt8.toInt32 else tq_hv q' k s)
    rw [h k (by omega), e]
theorem tq_TC {q q' : Nat → Int32} {k : Nat} (h : ∀ j, j < k → q j = q' j) (a b : Nat) : tq_T q k a b = tq_T q' k a b := by
  unfold tq_T
  rw [tq_hvC h a, tq_hvC h b]
theorem tq_FC {q q' : Nat → Int32} {k : Nat} (h : ∀ j, j < k → q j = q' j) (a b : Nat) : tq_F q k a b = tq_F q' k a b := by
  unfold tq_F
  rw [tq_TC h a b]
/-- the query as a table -/
def tq_q (c d e : Nat) : Nat → Int32 := fun j => if j = 0 then nI c else if j = 1 then nI d else nI e
/-- hints: the set after i symbols -/
def tq_hs (a b c d : Nat) : Nat → Int32
  | 0 => 0
  | i + 1 => if tq_F (tq_q c d i) 3 a b ≤ 0 then tq_hs a b c d i ||| 0 else tq_hs a b c d i ||| ((1 : Int32) <<< (nI i &&& 31))
/-- the law's numbers -/
def tq_keep (a b c d : Int32) : Int32 := if c = a then (if d = b then 0 else 1) else 100
def tq_third (b k : Int32) : Int32 := if k = 0 then 15 else if k = 1 then (1 : Int32) <<< (b &&& 31) else 0
def tq_least (a b c d k : Int32) : Int32 := tq_mn (tq_mn (tq_mn k (2 + (if d = b then 0 else 1))) (2 + (if d = a then 0 else 1))) (2 + (if c = b then 1 else 100))
def tq_L (a b c d : Nat) : Int32 := tq_least (nI a) (nI b) (nI c) (nI d) (tq_keep (nI a) (nI b) (nI c) (nI d))
theorem tq_one : ∀ a, a < 4 → ∀ b, b < 4 → ∀ c, c < 4 → tq_F (tq_q c 0 0) 1 a b = (if nI c = nI a then 1 else 0) := by decide +kernel
theorem tq_two : ∀ a, a < 4 → ∀ b, b < 4 → ∀ c, c < 4 → ∀ d, d < 4 → tq_F (tq_q c d 0) 2 a b = (if tq_L a b c d = 0 then 1 else 0) := by decide +kernel
theorem tq_plc : ∀ a, a < 4 → ∀ b, b < 4 → ∀ c, c < 4 → ∀ d, d < 4 → (if tq_F (tq_q c d 0) 2 a b = 0 then (-1 : Int32) else 0) = (if tq_L a b c d = 0 then 0 else -1) := by decide +kernel
theorem tq_typ : ∀ a, a < 4 → ∀ b, b < 4 → ∀ c, c < 4 → ∀ d, d < 4 → tq_T (tq_q c d 0) 2 a b = (if tq_L a b c d ≤ 2 then tq_L a b c d else 3) := by decide +kernel
theorem tq_hin : ∀ a, a < 4 → ∀ b, b < 4 → ∀ c, c < 4 → ∀ d, d < 4 → tq_hs a b c d 4 &&& tq_third (nI b) (tq_keep (nI a) (nI b) (nI c) (nI d)) = tq_third (nI b) (tq_keep (nI a) (nI b) (nI c) (nI d)) := by decide +kernel
theorem tq_sym : ∀ s, s < 4 → (nI s).toInt8.toInt32 = nI s := by decide +kernel
theorem tq_bit : ∀ i, i < 10 → 1 ≤ i → ((0 : Int32) >>> (nI i &&& 31)) &&& 1 = 0 ∧ ((1 : Int32) >>> (nI i &&& 31)) &&& 1 = 0 := by decide +kernel
end
section
section
variable {pr sz n o t kn fs : Int32} {a1 a2 a3 a4 a5 a6 : Nat → Int32}
theorem tq_movable0 {post : Int32 → Prop} {p : Int32} (h : post (tq_m0 sz p)) : wpX_movable post (pr, sz, n, o, t, kn, fs, a1, a2, a3, a4, a5, a6) p 0 := by
  unfold wpX_movable
  exact nm_e (br_t rfl h)
theorem tq_movable1 {post : Int32 → Prop} {p : Int32} (h : post (tq_m1 sz p)) : wpX_movable post (pr, sz, n, o, t, kn, fs, a1, a2, a3, a4, a5, a6) p 1 := by
  unfold wpX_movable
  exact nm_e (br_f (by decide) h)
theorem tq_leave {post : St2 → Prop} (h : post (pr, sz, n, tq_lO sz n o, tq_lT sz n o t, kn, fs, a1, a2, a3, a4, a5, a6)) : wpX_leaveOut post (pr, sz, n, o, t, kn, fs, a1, a2, a3, a4, a5, a6) := by
  unfold wpX_leaveOut
  refine tq_movable0 (nm_e ?_)
  refine tq_movable0 (nm_e ?_)
  refine tq_movable1 (nm_e ?_)
  exact h
theorem tq_reach {post : Int32 → Prop} (h : post (tq_re sz n o t)) : wpX_reached post (pr, sz, n, o, t, kn, fs, a1, a2, a3, a4, a5, a6) := by
  unfold wpX_reached
  unfold tq_re at h
  refine nm_e (br_c (fun h1 => br_c (fun h2 => br_c (fun h3 => ?_) (fun h3 => ?_)) (fun h2 => ?_)) (fun h1 => ?_))
  · rw [if_pos h1, if_pos h2, if_pos h3] at h
    exact h
  · rw [if_pos h1, if_pos h2, if_neg h3] at h
    exact h
  · rw [if_pos h1, if_neg h2] at h
    exact h
  · rw [if_neg h1] at h
    exact h
theorem tq_adv {post : St2 → Prop} {m : Nat} {p : Int32} (hm : m < 4) (hp : p = nI m) (h : post (pr, sz, (tq_go sz (a5 m) (n, o, t)).1, (tq_go sz (a5 m) (n, o, t)).2.1, (tq_go sz (a5 m) (n, o, t)).2.2, kn, fs, a1, a2, a3, a4, a5, a6)) : wpX_advance post (pr, sz, n, o, t, kn, fs, a1, a2, a3, a4, a5, a6) p := by
  subst hp
  unfold wpX_advance
  refine ⟨pk_in m 4 hm, nm_r (e' := a5 m) (by rw [nI_clamp (by omega)]) ?_⟩
  refine tq_movable0 (nm_e ?_)
  refine tq_movable1 (nm_e ?_)
  refine tq_movable0 (nm_e (nm_e ?_))
  refine tq_leave ?_
  exact h
theorem tq_22 {post : St2 → Prop} {k : Nat} (hk : k ≤ 6) (hq : ∀ j, j < k → ∃ m, m < 4 ∧ a4 j = nI m) (h0 : ∀ j, j < 4 → a5 j = 0)
    (H : ∀ a, (∀ j, j < 4 → a j = tq_hv a4 k j) → post (pr, nI k, 1, tq_lO (nI k) 1 0, tq_lT (nI k) 1 0 0, kn, fs, a1, a2, a3, a4, a, a6)) : ∃ f, wX_setOut_22 post pr (nI k) n o t kn fs f 0 a1 a2 a3 a4 a5 a6 :=
  pk_loop (fun f i s => wX_setOut_22 post pr (nI k) n o t kn fs f (nI i) a1 a2 a3 a4 s a6) (fun i s => ∀ j, j < 4 → s j = tq_hv a4 i j) k 0 a5 (by omega) h0
    (fun f s h => pk_le k k (fun _ => tq_leave (H s h)) (fun z => absurd z (by omega)))
    (fun f i s hi h hw => pk_le k i (fun z => absurd z (by omega)) (fun _ => by
      obtain ⟨m, hm, e⟩ := hq i hi
      refine ⟨pk_in i 6 (by omega), nm_r (e' := nI m) (by rw [nI_clamp (by omega), e]) ⟨pk_in m 4 hm, pk_in m 4 hm, nm_e (nm_r (nI_1 i) (hw _ ?_))⟩⟩
      intro j hj
      rw [nI_clamp (show m < 2 ^ 31 by omega)]
      show _ = (if (a4 i).toNatClampNeg = j then ((tq_hv a4 i j) ||| ((1 : Int32) <<< (nI i &&& 31))).toInt8.toInt32 else tq_hv a4 i j)
      rw [e, nI_clamp (show m < 2 ^ 31 by omega)]
      by_cases g : m = j
      · subst g
        rw [if_pos rfl, pk_us, h m hm]
      · rw [if_neg g, pk_un (fun z => g z.symm), h j hj]))
theorem tq_setOut {post : St2 → Prop} {k : Nat} (hk : k ≤ 6) (hq : ∀ j, j < k → ∃ m, m < 4 ∧ a4 j = nI m)
    (H : ∀ a, (∀ j, j < 4 → a j = tq_hv a4 k j) → post (pr, nI k, 1, tq_lO (nI k) 1 0, tq_lT (nI k) 1 0 0, kn, fs, a1, a2, a3, a4, a, a6)) : wpX_setOut post (pr, nI k, n, o, t, kn, fs, a1, a2, a3, a4, a5, a6) :=
  pk_loop (fun f i s => wX_setOut_2 post pr (nI k) n o t kn fs f (nI i) a1 a2 a3 a4 s a6) (fun i s => ∀ j, j < i → s j = 0) 4 0 a5 (by omega) (fun j hj => absurd hj (by omega))
    (fun f s h => pk_le 4 4 (fun _ => tq_22 hk hq h H) (fun z => absurd z (by omega)))
    (fun f i s hi h hw => pk_le 4 i (fun z => absurd z (by omega)) (fun _ => ⟨pk_in i 4 hi, nm_e (nm_r (nI_1 i) (hw _ (by
      intro j hj
      rw [nI_clamp (show i < 2 ^ 31 by omega)]
      by_cases g : j = i
      · rw [g, pk_us]
      · rw [pk_un g]
        exact h j (by omega))))⟩))
/-- one symbol of word 0 -/
theorem tq_turn {post : Int32 → St2 → Prop} {f k m : Nat} {x : Int32} (hl : a1 0 = 2) (hk : k < 2) (hm : m < 4) (ha : a3 k = nI m)
    (h : wX_typosOf_11 post 0 f (tq_mn x (tq_rx sz (tq_go sz (a5 m) (n, o, t)))) (nI (k + 1)) pr sz (tq_go sz (a5 m) (n, o, t)).1 (tq_go sz (a5 m) (n, o, t)).2.1 (tq_go sz (a5 m) (n, o, t)).2.2 kn fs a1 a2 a3 a4 a5 a6) :
    wX_typosOf_11 post 0 (f + 1) x (nI k) pr sz n o t kn fs a1 a2 a3 a4 a5 a6 := by
  have e0 : (0 : Int32) * 6 + nI k = nI k := by
    rw [show (0 : Int32) * 6 = nI 0 by decide, nI_add, Nat.zero_add]
  refine ⟨pk_in 0 10 (by omega), br_f ?_ ⟨?_, ?_⟩⟩
  · show ¬ a1 0 ≤ nI k
    rw [hl]
    exact nI_ge (b := 2) hk (by decide)
  · rw [e0]
    exact pk_in k 60 (by omega)
  · refine tq_adv hm (by rw [e0, nI_clamp (by omega)]; exact ha) ?_
    refine tq_reach ?_
    unfold tq_mn at h
    refine br_c (fun g => nm_r (nI_1 k) ?_) (fun g => nm_r (nI_1 k) ?_)
    · have g' : x ≤ tq_rx sz (tq_go sz (a5 m) (n, o, t)) := g
      rw [if_pos g'] at h
      exact h
    · have g' : ¬ x ≤ tq_rx sz (tq_go sz (a5 m) (n, o, t)) := g
      rw [if_neg g'] at h
      exact h
theorem tq_typosOf {post : Int32 → St2 → Prop} {k a b : Nat} (hk : k ≤ 6) (hq : ∀ j, j < k → ∃ m, m < 4 ∧ a4 j = nI m) (hl : a1 0 = 2) (ha : a < 4) (hb : b < 4) (h0 : a3 0 = nI a) (h1 : a3 1 = nI b)
    (H : ∀ n o t s, post (tq_ty (nI k) (tq_hv a4 k a) (tq_hv a4 k b)) (pr, nI k, n, o, t, kn, fs, a1, a2, a3, a4, s, a6)) : wpX_typosOf post (pr, nI k, n, o, t, kn, fs, a1, a2, a3, a4, a5, a6) 0 := by
  unfold wpX_typosOf
  refine tq_setOut hk hq (fun s hs => ?_)
  refine tq_reach ⟨3, ?_⟩
  refine tq_turn (k := 0) hl (by omega) ha h0 ?_
  refine tq_turn (k := 1) hl (by omega) hb h1 ?_
  rw [hs a ha, hs b hb]
  refine ⟨pk_in 0 10 (by omega), br_t ?_ ?_⟩
  · show a1 0 ≤ nI 2
    rw [hl]
    decide
  · exact H _ _ _ _
end
end
section
section
variable {sz n o t kn fs : Int32} {a1 a2 a3 a4 a5 a6 : Nat → Int32}
theorem tq_has0 {post : Int32 → Prop} (h : post 1) : wpX_has post (1, sz, n, o, t, kn, fs, a1, a2, a3, a4, a5, a6) 0 := by
  unfold wpX_has
  exact br_f (by decide) (br_f (by decide) (br_f (by decide) h))
theorem tq_hasN {post : Int32 → Prop} {i : Nat} (h1 : 1 ≤ i) (hi : i < 10) (h : post 0) : wpX_has post (1, sz, n, o, t, kn, fs, a1, a2, a3, a4, a5, a6) (nI i) := by
  unfold wpX_has
  exact br_f (nI_pos (by omega)) (br_f (nI_ge (b := 10) hi (by decide)) (br_t (tq_bit i hi h1).2 h))
theorem tq_symb {post : Int32 → Prop} {s : Nat} (hs : s < 4) (h : post 1) : wpX_isSymbol post () (nI s) := by
  unfold wpX_isSymbol
  exact br_f (nI_pos (by omega)) (br_f (nI_ge (b := 4) hs (by decide)) h)
theorem tq_forg {post : Int32 → Prop} {pr : Int32} {k : Nat} (hk : k ≤ 6) (h : post (tq_fg k)) : wpX_forgiven post (pr, nI k, n, o, t, kn, fs, a1, a2, a3, a4, a5, a6) := by
  unfold wpX_forgiven
  unfold tq_fg at h
  refine pk_le 3 k (fun z => pk_le 5 k (fun y => ?_) (fun y => ?_)) (fun z => ?_)
  · rw [if_pos z, if_pos y] at h
    exact h
  · rw [if_pos z, if_neg (by omega)] at h
    exact h
  · rw [if_neg (by omega)] at h
    exact h
/-- learn behind word 0 -/
theorem tq_lrest {post : St2 → Prop} (H : post (1, sz, n, o, t, kn, fs, a1, a2, a3, a4, a5, a6)) : ∀ m i, i + m = 10 → 1 ≤ i → wX_learn_20 post (m + 1) (nI i) 1 sz n o t kn fs a1 a2 a3 a4 a5 a6 := by
  intro m
  induction m with
  | zero =>
    intro i hi h1
    exact pk_le 10 i (fun _ => H) (fun z => absurd z (by omega))
  | succ m ih =>
    intro i hi h1
    exact pk_le 10 i (fun z => absurd z (by omega)) (fun _ => tq_hasN h1 (by omega) (br_t rfl (nm_r (nI_1 i) (ih (i + 1) (by omega) (by omega)))))
theorem tq_learn0 {post : St2 → Prop} {k a b : Nat} (hk : k ≤ 6) (hq : ∀ j, j < k → ∃ m, m < 4 ∧ a4 j = nI m) (hl : a1 0 = 2) (ha : a < 4) (hb : b < 4) (h0 : a3 0 = nI a) (h1 : a3 1 = nI b)
    (H : ∀ n o t s, post (1, nI k, n, o, t, 1, tq_F a4 k a b, a1, a2, a3, a4, s, upd a6 0 (tq_T a4 k a b))) : wpX_learn post (1, nI k, n, o, t, 0, fs, a1, a2, a3, a4, a5, a6) := by
  unfold wpX_learn
  refine br_t rfl ⟨11, ?_⟩
  refine br_f (by decide) ?_
  refine tq_has0 (br_f (by decide) ?_)
  refine tq_typosOf hk hq hl ha hb h0 h1 (fun n' o' t' s => ?_)
  have H' := H n' o' t' s
  unfold tq_F at H'
  refine ⟨pk_in 0 10 (by omega), nm_r (e' := upd a6 0 (tq_T a4 k a b)) rfl ⟨pk_in 0 10 (by omega), ?_⟩⟩
  refine tq_forg hk (br_c (fun g => ?_) (fun g => ?_))
  · have g' : tq_fg k < tq_T a4 k a b := g
    rw [if_pos g'] at H'
    exact nm_r (e' := 0) (by decide) (nm_r (e' := nI 1) (by decide) (tq_lrest H' 9 1 (by omega) (by omega)))
  · have g' : ¬ tq_fg k < tq_T a4 k a b := g
    rw [if_neg g'] at H'
    exact nm_r (e' := 1) (by decide) (nm_r (e' := nI 1) (by decide) (tq_lrest H' 9 1 (by omega) (by omega)))
theorem tq_learn1 {post : St2 → Prop} {pr : Int32} (H : post (pr, sz, n, o, t, 1, fs, a1, a2, a3, a4, a5, a6)) : wpX_learn post (pr, sz, n, o, t, 1, fs, a1, a2, a3, a4, a5, a6) := by
  unfold wpX_learn
  exact br_f (by decide) H
theorem tq_foundN {post : Int32 → Prop} {pr : Int32} {i : Nat} (hf : fs = 0 ∨ fs = 1) (h1 : 1 ≤ i) (hi : i < 10) (h : post 0) : wpX_isFound post (pr, sz, n, o, t, kn, fs, a1, a2, a3, a4, a5, a6) (nI i) := by
  unfold wpX_isFound
  rcases hf with e | e
  · subst e
    exact br_t (tq_bit i hi h1).1 h
  · subst e
    exact br_t (tq_bit i hi h1).2 h
theorem tq_found0 {post : Int32 → Prop} {pr : Int32} (hf : fs = 0 ∨ fs = 1) (h : post fs) : wpX_isFound post (pr, sz, n, o, t, kn, fs, a1, a2, a3, a4, a5, a6) 0 := by
  unfold wpX_isFound
  rcases hf with e | e
  · subst e
    exact br_t (by decide) h
  · subst e
    exact br_f (by decide) h
theorem tq_crest {post : Int32 → St2 → Prop} {pr : Int32} (hf : fs = 0 ∨ fs = 1) (H : post fs (pr, sz, n, o, t, kn, fs, a1, a2, a3, a4, a5, a6)) : ∀ m i, i + m = 10 → 1 ≤ i → wX_foundCount_8 post pr sz n o t kn fs a1 a2 a3 a4 a5 a6 (m + 1) fs (nI i) := by
  intro m
  induction m with
  | zero =>
    intro i hi h1
    exact pk_le 10 i (fun _ => H) (fun z => absurd z (by omega))
  | succ m ih =>
    intro i hi h1
    exact pk_le 10 i (fun z => absurd z (by omega)) (fun _ => tq_foundN hf h1 (by omega) (br_t rfl (nm_r (Int32.add_zero fs) (nm_r (nI_1 i) (ih (i + 1) (by omega) (by omega))))))
theorem tq_count {post : Int32 → St2 → Prop} {pr : Int32} (hf : fs = 0 ∨ fs = 1) (H : post fs (pr, sz, n, o, t, kn, fs, a1, a2, a3, a4, a5, a6)) : ∃ f, wX_foundCount_8 post pr sz n o t kn fs a1 a2 a3 a4 a5 a6 f 0 0 := by
  refine ⟨11, ?_⟩
  refine br_f (by decide) (tq_found0 hf ?_)
  have r := tq_crest hf H 9 1 (by omega) (by omega)
  rcases hf with e | e
  · subst e
    exact br_t rfl (nm_r (by decide) (nm_r (by decide) r))
  · subst e
    exact br_f (by decide) (nm_r (by decide) (nm_r (by decide) r))
theorem tq_type {post : Int32 → St2 → Prop} {k s a b : Nat} (hk : k < 6) (hs : s < 4) (hq : ∀ j, j < k → ∃ m, m < 4 ∧ a4 j = nI m) (hl : a1 0 = 2) (ha : a < 4) (hb : b < 4) (h0 : a3 0 = nI a) (h1 : a3 1 = nI b)
    (H : ∀ n o t u, post (tq_F (upd a4 k (nI s)) (k + 1) a b) (1, nI (k + 1), n, o, t, 1, tq_F (upd a4 k (nI s)) (k + 1) a b, a1, a2, a3, upd a4 k (nI s), u, upd a6 0 (tq_T (upd a4 k (nI s)) (k + 1) a b))) :
    wpX_type post (1, nI k, n, o, t, kn, fs, a1, a2, a3, a4, a5, a6) (nI s) := by
  unfold wpX_type
  refine tq_symb hs (br_f (by decide) ?_)
  refine br_t (nI_lt (b := 6) hk (by decide)) ⟨pk_in k 6 hk, nm_r (e' := upd a4 k (nI s)) (by rw [nI_clamp (by omega), tq_sym s hs]) (nm_r (nI_1 k) ?_)⟩
  unfold wpX_foundCount
  refine tq_learn0 (by omega) ?_ hl ha hb h0 h1 (fun n' o' t' u => ?_)
  · intro j hj
    by_cases g : j = k
    · exact ⟨s, hs, by rw [g, pk_us]⟩
    · obtain ⟨m, hm, e⟩ := hq j (by omega)
      exact ⟨m, hm, by rw [pk_un g, e]⟩
  · exact tq_count (tq_F01 _ _ _ _) (H n' o' t' u)
theorem tq_typos {post : Int32 → St2 → Prop} (H : post (a6 0) (1, sz, n, o, t, 1, fs, a1, a2, a3, a4, a5, a6)) : wpX_typos post (1, sz, n, o, t, 1, fs, a1, a2, a3, a4, a5, a6) 0 := by
  unfold wpX_typos
  refine tq_has0 (br_f (by decide) ?_)
  refine tq_learn1 ?_
  exact ⟨pk_in 0 10 (by omega), H⟩
theorem tq_prest {post : Int32 → St2 → Prop} {pr : Int32} (hf : fs = 0 ∨ fs = 1) (H : post 0 (pr, sz, n, o, t, kn, fs, a1, a2, a3, a4, a5, a6)) : ∀ m i, i + m = 10 → 1 ≤ i → wX_place_28 post 0 pr sz n o t kn fs a1 a2 a3 a4 a5 a6 (m + 1) 0 (nI i) := by
  intro m
  induction m with
  | zero =>
    intro i hi h1
    exact pk_le 10 i (fun _ => H) (fun z => absurd z (by omega))
  | succ m ih =>
    intro i hi h1
    exact pk_le 10 i (fun z => absurd z (by omega)) (fun _ => br_f (nI_ne0 (by omega) (by omega)) (tq_foundN hf h1 (by omega) (br_t rfl (nm_r (e' := 0) (by decide) (nm_r (nI_1 i) (ih (i + 1) (by omega) (by omega)))))))
theorem tq_place {post : Int32 → St2 → Prop} (hf : fs = 0 ∨ fs = 1) (H : post (if fs = 0 then -1 else 0) (1, sz, n, o, t, 1, fs, a1, a2, a3, a4, a5, a6)) : wpX_place post (1, sz, n, o, t, 1, fs, a1, a2, a3, a4, a5, a6) 0 := by
  unfold wpX_place
  refine tq_has0 (br_f (by decide) ?_)
  refine tq_learn1 ?_
  refine tq_found0 hf (br_c (fun g => ?_) (fun g => ⟨11, ?_⟩))
  · rw [if_pos g] at H
    exact H
  · rw [if_neg g] at H
    exact br_f (by decide) (br_t rfl (nm_r (e' := 0) (by decide) (nm_r (e' := nI 1) (by decide) (tq_prest hf H 9 1 (by omega) (by omega)))))
theorem tq_rub {post : Int32 → St2 → Prop} {pr : Int32} {k : Nat} (hk : k < 6) (H : post (a4 k) (pr, nI k, n, o, t, 0, fs, a1, a2, a3, a4, a5, a6)) : wpX_rub post (pr, nI (k + 1), n, o, t, kn, fs, a1, a2, a3, a4, a5, a6) := by
  unfold wpX_rub
  refine br_f (nI_ne0 (by omega) (by omega)) (nm_r (nI_pred k) ⟨pk_in k 6 hk, ?_⟩)
  rw [nI_clamp (show k < 2 ^ 31 by omega)]
  exact H
/-- a query of two symbols and a third -/
theorem tq_qq {c d s : Nat} {q : Nat → Int32} (h0 : q 0 = nI c) (h1 : q 1 = nI d) : ∀ j, j < 3 → upd q 2 (nI s) j = tq_q c d s j := by
  intro j hj
  match j, hj with
  | 0, _ => exact (pk_un (by decide)).trans h0
  | 1, _ => exact (pk_un (by decide)).trans h1
  | 2, _ => exact pk_us
theorem tq_hint {post : Int32 → St2 → Prop} {a b c d : Nat} (hl : a1 0 = 2) (ha : a < 4) (hb : b < 4) (hc : c < 4) (hd : d < 4) (h0 : a3 0 = nI a) (h1 : a3 1 = nI b)
    (H : ∀ n o t kn fs a4 a5 a6, a4 0 = nI c → a4 1 = nI d → post (tq_hs a b c d 4) (1, nI 2, n, o, t, kn, fs, a1, a2, a3, a4, a5, a6)) :
    ∀ m i, i + m = 4 → ∀ n o t kn fs a4 a5 a6, a4 0 = nI c → a4 1 = nI d → wX_hints_4 post (m + 1) (tq_hs a b c d i) (nI i) 1 (nI 2) n o t kn fs a1 a2 a3 a4 a5 a6 := by
  intro m
  induction m with
  | zero =>
    intro i hi n o t kn fs a4 a5 a6 e0 e1
    have hi' : i = 4 := by omega
    subst hi'
    exact br_t (by decide) (H n o t kn fs a4 a5 a6 e0 e1)
  | succ m ih =>
    intro i hi n o t kn fs a4 a5 a6 e0 e1
    refine pk_le 4 i (fun z => absurd z (by omega)) (fun z => br_f (by decide) ?_)
    have hF : tq_F (upd a4 2 (nI i)) 3 a b = tq_F (tq_q c d i) 3 a b := tq_FC (tq_qq e0 e1) a b
    refine tq_type (k := 2) (by omega) z ?_ hl ha hb h0 h1 (fun n' o' t' u => ?_)
    · intro j hj
      match j, hj with
      | 0, _ => exact ⟨c, hc, e0⟩
      | 1, _ => exact ⟨d, hd, e1⟩
    · refine tq_rub (k := 2) (by omega) ?_
      have N := ih (i + 1) (by omega) n' o' t' 0 (tq_F (upd a4 2 (nI i)) 3 a b) (upd a4 2 (nI i)) u (upd a6 0 (tq_T (upd a4 2 (nI i)) 3 a b)) ((pk_un (by decide)).trans e0) ((pk_un (by decide)).trans e1)
      have eh : tq_hs a b c d (i + 1) = if tq_F (upd a4 2 (nI i)) 3 a b ≤ 0 then tq_hs a b c d i ||| 0 else tq_hs a b c d i ||| ((1 : Int32) <<< (nI i &&& 31)) := by
        rw [hF]
        rfl
      rw [eh] at N
      refine br_c (fun g => ?_) (fun g => ?_)
      · have g' : tq_F (upd a4 2 (nI i)) 3 a b ≤ 0 := g
        rw [if_pos g'] at N
        exact nm_e (nm_r (nI_1 i) N)
      · have g' : ¬ tq_F (upd a4 2 (nI i)) 3 a b ≤ 0 := g
        rw [if_neg g'] at N
        exact nm_e (nm_r (nI_1 i) N)
theorem tq_begin {post : Int32 → St2 → Prop} {a : Nat} (ha : a < 4) (H : post 0 (1, sz, n, o, t, 0, fs, upd a1 0 1, upd a2 0 1, upd a3 0 (nI a), a4, a5, a6)) : wpX_begin post (0, sz, n, o, t, kn, fs, a1, a2, a3, a4, a5, a6) (nI a) 1 := by
  unfold wpX_begin
  refine tq_symb ha (br_f (by decide) (br_f (by decide) (br_t (by decide) ⟨1, ?_⟩)))
  refine br_f (by decide) ?_
  unfold wpX_has
  refine br_f (by decide) (br_f (by decide) (br_t (by decide) ?_))
  refine br_t rfl (nm_r (e' := 1) (by decide) ⟨pk_in 0 60 (by omega) (by decide), nm_r (e' := upd a3 0 (nI a)) (by rw [tq_sym a ha]; rfl) ⟨pk_in 0 10 (by omega), nm_r (e' := upd a1 0 1) rfl ⟨pk_in 0 10 (by omega), nm_r (e' := upd a2 0 1) ?_ H⟩⟩⟩)
  exact congrArg (upd a2 0) (by decide)
theorem tq_extend {post : Int32 → St2 → Prop} {b : Nat} (hb : b < 4) (h1 : a1 0 = 1) (H : post 1 (1, sz, n, o, t, 0, fs, upd a1 0 2, a2, upd a3 1 (nI b), a4, a5, a6)) : wpX_extend post (1, sz, n, o, t, kn, fs, a1, a2, a3, a4, a5, a6) 0 (nI b) := by
  unfold wpX_extend
  refine tq_has0 (br_f (by decide) ?_)
  refine tq_symb hb (br_f (by decide) ⟨pk_in 0 10 (by omega), ?_⟩)
  have e0 : a1 (0 : Int32).toNatClampNeg = 1 := h1
  rw [e0]
  refine br_t (by decide) ⟨pk_in 0 10 (by omega), pk_in 1 60 (by omega) (by decide), nm_r (e' := upd a3 1 (nI b)) (by rw [tq_sym b hb]; rfl) ⟨pk_in 0 10 (by omega), pk_in 0 10 (by omega), nm_r (e' := upd a1 0 2) ?_ H⟩⟩
  exact congrArg (upd a1 0) (by decide)
end
end
section
section
variable {mc ms kc ks : Nat} {x5 x6 x7 x8 x9 x10 x11 x12 x13 x14 x15 x16 x17 x18 x19 x20 x21 z0 z1 : Int32}
theorem tq_e321 (h : z1 = z0) (h14 : x14 = x8) (h13 : x13 &&& x21 = x21) : wL_lawOf_321 (fun r _ => r = 1) mc ms x8 x13 x14 x21 z0 z1 kc ks := by
  unfold wL_lawOf_321
  exact br_t h (br_t h14 (br_t h13 rfl))
theorem tq_e306 (h : z1 = z0) (h12 : x12 = (if x20 = 0 then -1 else 0)) (h14 : x14 = x8) (h13 : x13 &&& x21 = x21) : wL_lawOf_306 (fun r _ => r = 1) mc ms x8 x12 x13 x14 x20 x21 z0 z1 kc ks := by
  unfold wL_lawOf_306
  refine br_t h (br_c (fun g => tq_e321 ?_ h14 h13) (fun g => tq_e321 ?_ h14 h13))
  · rw [h12, if_pos g]
  · rw [h12, if_neg g]
theorem tq_e289 (h : z1 = z0) (h11 : x11 = (if x19 ≤ 2 then x19 else 3)) (h12 : x12 = (if x20 = 0 then -1 else 0)) (h14 : x14 = x8) (h13 : x13 &&& x21 = x21) : wL_lawOf_289 (fun r _ => r = 1) mc ms x8 x11 x12 x13 x14 x19 x20 x21 z0 z1 kc ks := by
  unfold wL_lawOf_289
  refine br_t h (br_c (fun g => tq_e306 ?_ h12 h14 h13) (fun g => tq_e306 ?_ h12 h14 h13))
  · rw [h11, if_pos g]
  · rw [h11, if_neg g]
theorem tq_e274 (h : z1 = z0) (h10 : x10 = (if x20 = 0 then 0 else 1)) (h11 : x11 = (if x19 ≤ 2 then x19 else 3)) (h12 : x12 = (if x20 = 0 then -1 else 0)) (h14 : x14 = x8) (h13 : x13 &&& x21 = x21) : wL_lawOf_274 (fun r _ => r = 1) mc ms x8 x10 x11 x12 x13 x14 x19 x20 x21 z0 z1 kc ks := by
  unfold wL_lawOf_274
  refine br_t h (br_c (fun g => tq_e289 ?_ h11 h12 h14 h13) (fun g => tq_e289 ?_ h11 h12 h14 h13))
  · rw [h10, if_pos g]
  · rw [h10, if_neg g]
theorem tq_e258 (h9 : x9 = (if x7 = x5 then 1 else 0)) (h10 : x10 = (if x20 = 0 then 0 else 1)) (h11 : x11 = (if x19 ≤ 2 then x19 else 3)) (h12 : x12 = (if x20 = 0 then -1 else 0)) (h14 : x14 = x8) (h13 : x13 &&& z0 = z0) : wL_lawOf_258 (fun r _ => r = 1) mc ms x5 x7 x8 x9 x10 x11 x12 x13 x14 x19 x20 z0 kc ks := by
  unfold wL_lawOf_258
  refine br_c (fun g => tq_e274 ?_ h10 h11 h12 h14 h13) (fun g => tq_e274 ?_ h10 h11 h12 h14 h13)
  · rw [h9, if_pos g]
  · rw [h9, if_neg g]
theorem tq_e232 (h9 : x9 = (if x7 = x5 then 1 else 0)) (h10 : x10 = (if z0 = 0 then 0 else 1)) (h11 : x11 = (if x19 ≤ 2 then x19 else 3)) (h12 : x12 = (if z0 = 0 then -1 else 0)) (h14 : x14 = x8) (h13 : x13 &&& tq_third x6 x15 = tq_third x6 x15) : wL_lawOf_232 (fun r _ => r = 1) mc ms x5 x6 x7 x8 x9 x10 x11 x12 x13 x14 x15 x19 z0 kc ks := by
  unfold wL_lawOf_232
  unfold tq_third at h13
  refine br_c (fun g => tq_e258 h9 h10 h11 h12 h14 ?_) (fun g => br_c (fun g2 => tq_e258 h9 h10 h11 h12 h14 ?_) (fun g2 => tq_e258 h9 h10 h11 h12 h14 ?_))
  · rw [if_pos g] at h13
    exact h13
  · rw [if_neg g, if_pos g2] at h13
    exact h13
  · rw [if_neg g, if_neg g2] at h13
    exact h13
theorem tq_e220 (h9 : x9 = (if x7 = x5 then 1 else 0)) (h10 : x10 = (if z0 = 0 then 1 else 0)) (h11 : x11 = (if z0 ≤ 2 then z0 else 3)) (h12 : x12 = (if z0 = 0 then 0 else -1)) (h14 : x14 = x8) (h13 : x13 &&& tq_third x6 x15 = tq_third x6 x15) : wL_lawOf_220 (fun r _ => r = 1) mc ms x5 x6 x7 x8 x9 x10 x11 x12 x13 x14 x15 z0 kc ks := by
  unfold wL_lawOf_220
  refine br_c (fun g => tq_e232 h9 ?_ h11 ?_ h14 h13) (fun g => tq_e232 h9 ?_ h11 ?_ h14 h13)
  · rw [h10, if_pos g]
    rfl
  · rw [h12, if_pos g]
    rfl
  · rw [h10, if_neg g]
    rfl
  · rw [h12, if_neg g]
    rfl
theorem tq_e204 {post : Int32 → St0 → Prop} (h : wL_lawOf_220 post mc ms x5 x6 x7 x8 x9 x10 x11 x12 x13 x14 x15 (tq_mn z0 x18) kc ks) : wL_lawOf_204 post mc ms x5 x6 x7 x8 x9 x10 x11 x12 x13 x14 x15 x18 z0 kc ks := by
  unfold wL_lawOf_204
  unfold tq_mn at h
  refine br_c (fun g => ?_) (fun g => ?_)
  · rw [if_pos g] at h
    exact h
  · rw [if_neg g] at h
    exact h
theorem tq_e188 {post : Int32 → St0 → Prop} (h : wL_lawOf_220 post mc ms x5 x6 x7 x8 x9 x10 x11 x12 x13 x14 x15 (tq_mn (tq_mn z0 x17) x18) kc ks) : wL_lawOf_188 post mc ms x5 x6 x7 x8 x9 x10 x11 x12 x13 x14 x15 x17 x18 z0 kc ks := by
  unfold wL_lawOf_188
  refine br_c (fun g => tq_e204 ?_) (fun g => tq_e204 ?_)
  · rw [show tq_mn z0 x17 = z0 from if_pos g] at h
    exact h
  · rw [show tq_mn z0 x17 = x17 from if_neg g] at h
    exact h
theorem tq_e167 {post : Int32 → St0 → Prop} (h : wL_lawOf_220 post mc ms x5 x6 x7 x8 x9 x10 x11 x12 x13 x14 x15 (tq_mn (tq_mn (tq_mn x15 x16) x17) (z1 + z0)) kc ks) : wL_lawOf_167 post mc ms x5 x6 x7 x8 x9 x10 x11 x12 x13 x14 x15 x16 x17 z0 z1 kc ks := by
  unfold wL_lawOf_167
  refine nm_e (br_c (fun g => tq_e188 ?_) (fun g => tq_e188 ?_))
  · rw [show tq_mn x15 x16 = x15 from if_pos g] at h
    exact h
  · rw [show tq_mn x15 x16 = x16 from if_neg g] at h
    exact h
theorem tq_e150 {post : Int32 → St0 → Prop} (h : wL_lawOf_220 post mc ms x5 x6 x7 x8 x9 x10 x11 x12 x13 x14 x15 (tq_mn (tq_mn (tq_mn x15 x16) (z1 + z0)) (2 + (if x7 = x6 then 1 else 100))) kc ks) : wL_lawOf_150 post mc ms x5 x6 x7 x8 x9 x10 x11 x12 x13 x14 x15 x16 z0 z1 kc ks := by
  unfold wL_lawOf_150
  refine nm_e (br_c (fun g => tq_e167 ?_) (fun g => tq_e167 ?_))
  · rw [if_pos g] at h
    exact h
  · rw [if_neg g] at h
    exact h
theorem tq_e134 {post : Int32 → St0 → Prop} (h : wL_lawOf_220 post mc ms x5 x6 x7 x8 x9 x10 x11 x12 x13 x14 x15 (tq_mn (tq_mn (tq_mn x15 (z1 + z0)) (2 + (if x8 = x5 then 0 else 1))) (2 + (if x7 = x6 then 1 else 100))) kc ks) : wL_lawOf_134 post mc ms x5 x6 x7 x8 x9 x10 x11 x12 x13 x14 x15 z0 z1 kc ks := by
  unfold wL_lawOf_134
  refine nm_e (br_c (fun g => tq_e150 ?_) (fun g => tq_e150 ?_))
  · rw [if_pos g] at h
    exact h
  · rw [if_neg g] at h
    exact h
theorem tq_e119 {post : Int32 → St0 → Prop} (h : wL_lawOf_220 post mc ms x5 x6 x7 x8 x9 x10 x11 x12 x13 x14 z0 (tq_least x5 x6 x7 x8 z0) kc ks) : wL_lawOf_119 post mc ms x5 x6 x7 x8 x9 x10 x11 x12 x13 x14 z0 kc ks := by
  unfold wL_lawOf_119
  unfold tq_least at h
  refine br_c (fun g => tq_e134 ?_) (fun g => tq_e134 ?_)
  · rw [if_pos g] at h
    exact h
  · rw [if_neg g] at h
    exact h
end
end
section
theorem tq_law {mc ms a b c d : Nat} {p0 p1 p2 p3 : Int32} (ha : a < 4) (hb : b < 4) (hc : c < 4) (hd : d < 4) (e0 : p0 &&& 3 = nI a) (e1 : p1 &&& 3 = nI b) (e2 : p2 &&& 3 = nI c) (e3 : p3 &&& 3 = nI d) (hm : 7 ≤ mc) (hs : 113 ≤ ms) : wpL_lawOf (fun r _ => r = 1) mc ms () p0 p1 p2 p3 := by
  unfold wpL_lawOf
  refine ⟨by omega, by omega, 6, 100, by omega, by omega, ?_⟩
  unfold wpX_init
  refine ⟨by omega, by omega, by omega, by omega, by omega, by omega, by omega, by omega, by omega, by omega, by omega, by omega, ?_⟩
  refine nm_r e0 (nm_r e1 (nm_r e2 (nm_r e3 ?_)))
  refine tq_begin ha ?_
  refine tq_extend hb rfl ?_
  have l0 : upd (upd (fun _ => 0) 0 1) 0 2 0 = 2 := rfl
  have s0 : upd (upd (fun _ => 0) 0 (nI a)) 1 (nI b) 0 = nI a := rfl
  have s1 : upd (upd (fun _ => 0) 0 (nI a)) 1 (nI b) 1 = nI b := rfl
  refine tq_type (k := 0) (by omega) hc (fun j hj => absurd hj (by omega)) l0 ha hb s0 s1 (fun n o t u => ?_)
  refine tq_type (k := 1) (by omega) hd ?_ l0 ha hb s0 s1 (fun n o t u => ?_)
  · intro j hj
    have hj' : j = 0 := by omega
    exact ⟨c, hc, by rw [hj']; rfl⟩
  have q1 : tq_F (upd (fun _ => 0) 0 (nI c)) (0 + 1) a b = tq_F (tq_q c 0 0) 1 a b := tq_FC (fun j hj => by
    have hj' : j = 0 := by omega
    rw [hj']
    rfl) a b
  have q2 : ∀ j, j < 1 + 1 → upd (upd (fun _ => 0) 0 (nI c)) 1 (nI d) j = tq_q c d 0 j := by
    intro j hj
    match j, hj with
    | 0, _ => rfl
    | 1, _ => rfl
  refine tq_typos ?_
  refine tq_place (tq_F01 _ _ _ _) ?_
  refine ⟨5, tq_hint l0 ha hb hc hd s0 s1 ?_ 4 0 (by omega) _ _ _ _ _ _ _ _ rfl rfl⟩
  intro n o t kn fs a4 a5 a6 g0 g1
  refine tq_rub (k := 1) (by omega) ?_
  have F : wL_lawOf_119 (fun r _ => r = 1) mc ms (nI a) (nI b) (nI c) (nI d) (tq_F (upd (fun _ => 0) 0 (nI c)) (0 + 1) a b) (tq_F (upd (upd (fun _ => 0) 0 (nI c)) 1 (nI d)) (1 + 1) a b) (tq_T (upd (upd (fun _ => 0) 0 (nI c)) 1 (nI d)) (1 + 1) a b) (if tq_F (upd (upd (fun _ => 0) 0 (nI c)) 1 (nI d)) (1 + 1) a b = 0 then -1 else 0) (tq_hs a b c d 4) (a4 1) (tq_keep (nI a) (nI b) (nI c) (nI d)) (1 + 6) (13 + 100) := by
    refine tq_e119 (tq_e220 ?_ ?_ ?_ ?_ g1 (tq_hin a ha b hb c hc d hd))
    · rw [q1]
      exact tq_one a ha b hb c hc
    · rw [tq_FC q2]
      exact tq_two a ha b hb c hc d hd
    · rw [tq_TC q2]
      exact tq_typ a ha b hb c hc d hd
    · rw [tq_FC q2]
      exact tq_plc a ha b hb c hc d hd
  unfold tq_keep at F
  refine br_c (fun h1 => br_c (fun h2 => ?_) (fun h2 => ?_)) (fun h1 => ?_)
  · rw [if_pos h1, if_pos h2] at F
    exact F
  · rw [if_pos h1, if_neg h2] at F
    exact F
  · rw [if_neg h1] at F
    exact F
theorem tq_cell {post : Int32 → Prop} {L : Nat} {xs : Nat → Int32} {k : Nat} (hL : L ≤ 4) (hk : k < 4) (h : ∀ x, post x) : wpL_cellAt post L xs () (nI k) := by
  unfold wpL_cellAt
  exact pk_le L k (fun _ => h _) (fun z => ⟨pk_in k L z, h _⟩)
theorem i_vc (xs : Nat → Int32) (L : Nat) (hL : L ≤ 4) : wpL_law (fun r => r = 1) L xs := by
  unfold wpL_law
  refine tq_cell (k := 0) hL (by omega) (fun x => ?_)
  refine tq_cell (k := 1) hL (by omega) (fun y => ?_)
  refine tq_cell (k := 2) hL (by omega) (fun p => ?_)
  refine tq_cell (k := 3) hL (by omega) (fun q => ?_)
  obtain ⟨a, ha, e0⟩ := pk_andE x (m := 3) 2 (by decide)
  obtain ⟨b, hb, e1⟩ := pk_andE y (m := 3) 2 (by decide)
  obtain ⟨c, hc, e2⟩ := pk_andE p (m := 3) 2 (by decide)
  obtain ⟨d, hd, e3⟩ := pk_andE q (m := 3) 2 (by decide)
  exact ⟨7, 113, by omega, by omega, tq_law ha hb hc hd e0 e1 e2 e3 (by omega) (by omega)⟩
end
