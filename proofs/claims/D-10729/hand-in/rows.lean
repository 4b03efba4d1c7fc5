section
/-! plain facts: small ints, the words' tables as the constructor leaves them, the cells of the meets table -/
theorem cs_b8 : ∀ j, j < 4 → (nI j).toInt8.toInt32 = nI j := by decide +kernel
/-- the first n words: no shorter word, the last symbol is the word itself, length 1 -/
def cs_W (n : Nat) (a1 a2 a4 : Nat → Int32) : Prop := (∀ j, j < n → a1 j = -1) ∧ (∀ j, j < n → a2 j = nI j) ∧ (∀ j, j < n → a4 j = 1)
/-- the first n symbols of the machine's row of state 0 over the pattern of the one symbol s -/
def cs_R (s n : Nat) (b : Nat → Int32) : Prop := ∀ j, j < n → b j = if j = s then 1 else 0
/-- the meets of the first n words, read in state 0 -/
def cs_M (s n : Nat) (b : Nat → Int32) : Prop := ∀ w, w < n → b (w * 7) = if w = s then 1 else 0
theorem cs_put {f t : Nat → Int32} {i k : Nat} {x : Int32} (hk : k = i) (h : ∀ j, j < i → t j = f j) (hx : x = f i) : ∀ j, j < i + 1 → upd t k x j = f j := by
  intro j hj
  rw [hk]
  by_cases e : j = i
  · rw [e, pk_us, hx]
  · rw [pk_un e]
    exact h j (by omega)
theorem cs_W_put {i : Nat} {a1 a2 a4 : Nat → Int32} (hi : i < 4) (h : cs_W i a1 a2 a4) :
    cs_W (i + 1) (upd a1 (nI i).toNatClampNeg (-1)) (upd a2 (nI i).toNatClampNeg (nI i).toInt8.toInt32) (upd a4 (nI i).toNatClampNeg 1) :=
  ⟨cs_put (f := fun _ => -1) (nI_clamp (by omega)) h.1 rfl, cs_put (f := fun j => nI j) (nI_clamp (by omega)) h.2.1 (cs_b8 i hi), cs_put (f := fun _ => 1) (nI_clamp (by omega)) h.2.2 rfl⟩
/-- the row of state 0 once the pattern's symbol leads to state 1 -/
theorem cs_R_put {s : Nat} {b : Nat → Int32} (h : ∀ j, j < 4 → b j = 0) : cs_R s 4 (upd b s 1) := by
  intro j hj
  by_cases e : j = s
  · rw [e, pk_us, if_pos rfl]
  · rw [pk_un e, if_neg e]
    exact h j hj
/-- a place behind the row is written -/
theorem cs_R_keep {s k : Nat} {x : Int32} {b : Nat → Int32} (hk : 4 ≤ k) (h : cs_R s 4 b) : cs_R s 4 (upd b k x) := by
  intro j hj
  rw [pk_un (show j ≠ k by omega)]
  exact h j hj
/-- the two cells of word i are written -/
theorem cs_M_put {s i : Nat} {v w : Int32} {b : Nat → Int32} (hv : v = if i = s then 1 else 0) (h : cs_M s i b) : cs_M s (i + 1) (upd (upd b (i * 7 + 0) v) (i * 7 + 1) w) := by
  intro j hj
  rw [pk_un (show j * 7 ≠ i * 7 + 1 by omega)]
  by_cases e : j = i
  · rw [e]
    show upd b (i * 7) v (i * 7) = _
    rw [pk_us, hv]
  · rw [pk_un (show j * 7 ≠ i * 7 + 0 by omega)]
    exact h j (by omega)
end
section
/-! the constructor, feed, extend -/
section
variable {f0 f1 f2 f3 f4 f5 f6 f7 f8 f9 f10 : Int32} {a1 a2 a3 a4 a5 a6 a7 a8 a9 a10 a11 : Nat → Int32}
theorem cs_init {post : St2 → Prop} {mc ms : Nat} (hc : 11 ≤ mc) (hs : 2204 ≤ ms)
    (H : ∀ a1 a2 a3 a4, cs_W 4 a1 a2 a4 → post (4, 0, 0, 0, 0, 0, 0, 0, 0, 0, 0, a1, a2, a3, a4, (fun _ => 0), (fun _ => 0), (fun _ => 0), (fun _ => 0), (fun _ => 0), (fun _ => 0), (fun _ => 0))) :
    wpX_init post mc ms (0, 0, 0, 0, 0, 0, 0, 0, 0, 0, 0) := by
  unfold wpX_init
  refine ⟨by omega, by omega, by omega, by omega, by omega, by omega, by omega, by omega, by omega, by omega, by omega, by omega, by omega, by omega, by omega, by omega, by omega, by omega, by omega, by omega, by omega, by omega, ?_⟩
  exact pk_loop (fun n i (t : (Nat → Int32) × (Nat → Int32) × (Nat → Int32) × (Nat → Int32)) => wX_init_104 post mc ms 11 2204 4 0 0 0 0 0 0 0 0 0 0 n (nI i) t.1 t.2.1 t.2.2.1 t.2.2.2 (fun _ => 0) (fun _ => 0) (fun _ => 0) (fun _ => 0) (fun _ => 0) (fun _ => 0) (fun _ => 0))
    (fun i t => cs_W i t.1 t.2.1 t.2.2.2) 4 0 ((fun _ => 0), (fun _ => 0), (fun _ => 0), (fun _ => 0)) (by omega)
    ⟨fun j hj => absurd hj (by omega), fun j hj => absurd hj (by omega), fun j hj => absurd hj (by omega)⟩
    (fun n t h => pk_le 4 4 (fun _ => H t.1 t.2.1 t.2.2.1 t.2.2.2 h) (fun z => absurd z (by omega)))
    (fun n i t hi h hw => pk_le 4 i (fun z => absurd z (by omega)) (fun _ => ⟨pk_in i 60 (by omega), nm_e ⟨pk_in i 60 (by omega), nm_e ⟨pk_in i 60 (by omega), nm_e ⟨pk_in i 60 (by omega), nm_e (nm_r (nI_1 i) (hw (_, _, _, _) (cs_W_put hi h)))⟩⟩⟩⟩))
theorem cs_feed {post : Int32 → St2 → Prop} {c : Nat} (hc : c < 4) (h4 : ∀ j, j < 4 → a4 j = 1)
    (H : post 1 (4, 1, 1, f3, f4, 0, f6, f7, f8, f9, f10, a1, a2, a3, a4, upd a5 0 (nI c), a6, a7, a8, a9, a10, a11)) :
    wpX_feed post (4, 0, 0, f3, f4, f5, f6, f7, f8, f9, f10, a1, a2, a3, a4, a5, a6, a7, a8, a9, a10, a11) (nI c) := by
  have e4 : a4 (nI c).toNatClampNeg = 1 := by rw [nI_clamp (by omega), h4 c hc]
  have e5 : upd a5 (0 : Int32).toNatClampNeg (nI c).toInt8.toInt32 = upd a5 0 (nI c) := by rw [sb_cl0, cs_b8 c hc]
  refine br_f (nI_pos (by omega)) (pk_lt 0 250 (fun _ => br_t rfl (pk_le 4 c (fun z => absurd z (by omega)) (fun _ => br_f (by decide) (br_t (by decide) (br_t (by decide) ?_))))) (fun z => absurd z (by omega)))
  refine ⟨pk_in 0 250 (by omega), nm_r e5 (nm_r (e' := 1) rfl ⟨pk_in c 60 (by omega), nm_r (e' := 1) (by rw [e4]; rfl) ⟨pk_in c 60 (by omega), ?_⟩⟩)⟩
  rw [e4]
  exact H
theorem cs_feed_no {post : Int32 → St2 → Prop} {c : Int32} (hc : c < 0 ∨ nI 4 ≤ c)
    (H : post (-1) (4, 0, 0, f3, f4, f5, f6, f7, f8, f9, f10, a1, a2, a3, a4, a5, a6, a7, a8, a9, a10, a11)) :
    wpX_feed post (4, 0, 0, f3, f4, f5, f6, f7, f8, f9, f10, a1, a2, a3, a4, a5, a6, a7, a8, a9, a10, a11) c :=
  br_c (fun _ => br_t rfl H) (fun z => pk_lt 0 250 (fun _ => br_t rfl (br_t (hc.resolve_left z) (br_t rfl H))) (fun z => absurd z (by omega)))
theorem cs_ext {post : Int32 → St2 → Prop} {s : Nat} (hs : s < 4)
    (H : post 1 (f0, f1, f2, 1, 0, 0, f6, f7, f8, f9, f10, a1, a2, a3, a4, a5, upd a6 0 (nI s), a7, a8, a9, a10, a11)) :
    wpX_extend post (f0, f1, f2, 0, f4, f5, f6, f7, f8, f9, f10, a1, a2, a3, a4, a5, a6, a7, a8, a9, a10, a11) (nI s) := by
  have e6 : upd a6 (0 : Int32).toNatClampNeg (nI s).toInt8.toInt32 = upd a6 0 (nI s) := by rw [sb_cl0, cs_b8 s hs]
  exact br_f (nI_pos (by omega)) (pk_lt 3 s (fun z => absurd z (by omega)) (fun _ => pk_lt 0 6 (fun _ => ⟨pk_in 0 6 (by omega), nm_r e6 (nm_r (e' := 1) rfl H)⟩) (fun z => absurd z (by omega))))
theorem cs_ext_no {post : Int32 → St2 → Prop} {s : Int32} (hs : s < 0 ∨ nI 3 < s)
    (H : post 0 (f0, f1, f2, f3, f4, f5, f6, f7, f8, f9, f10, a1, a2, a3, a4, a5, a6, a7, a8, a9, a10, a11)) :
    wpX_extend post (f0, f1, f2, f3, f4, f5, f6, f7, f8, f9, f10, a1, a2, a3, a4, a5, a6, a7, a8, a9, a10, a11) s :=
  br_c (fun _ => H) (fun z => br_t (hs.resolve_left z) H)
end
end
section
/-! the matching machine and the tables, over a pattern of one symbol s -/
section
variable {f0 f1 f2 f3 f4 f5 f6 f7 f8 f9 f10 : Int32} {a1 a2 a3 a4 a5 a6 a7 a8 a9 a10 a11 : Nat → Int32}
/-- state 0 of the machine -/
theorem cs_35a {post : St2 → Prop} {J : Int32 → Int32 → (Nat → Int32) → (Nat → Int32) → (Nat → Int32) → (Nat → Int32) → (Nat → Int32) → (Nat → Int32) → (Nat → Int32) → (Nat → Int32) → (Nat → Int32) → (Nat → Int32) → (Nat → Int32) → Prop} {s : Nat} (hs : s < 4) (h6 : a6 0 = nI s)
    (H : ∀ b, cs_R s 4 b → J 0 1 a1 a2 a3 a4 a5 a6 b a8 a9 a10 a11) :
    ∃ n, wX_buildMachine_35 post J 0 0 f0 f1 f2 1 f4 f5 f6 f7 f8 f9 f10 n 0 a1 a2 a3 a4 a5 a6 a7 a8 a9 a10 a11 := by
  have e6 : ((0 : Int32) * 4) + a6 (0 : Int32).toNatClampNeg = nI s := by
    rw [sb_cl0, h6, show ((0 : Int32) * 4) = nI 0 from rfl, nI_add, Nat.zero_add]
  have e3 : ∀ i, ((0 : Int32) * 4) + nI i = nI i := fun i => by rw [show ((0 : Int32) * 4) = nI 0 from rfl, nI_add, Nat.zero_add]
  refine pk_loop (fun n i t => wX_buildMachine_35 post J 0 0 f0 f1 f2 1 f4 f5 f6 f7 f8 f9 f10 n (nI i) a1 a2 a3 a4 a5 a6 t a8 a9 a10 a11) (fun i t => ∀ j, j < i → t j = 0) 4 0 a7 (by omega) (fun j hj => absurd hj (by omega)) ?_ ?_
  · intro n t h
    refine pk_le 4 4 (fun _ => pk_le 1 0 (fun z => absurd z (by omega)) (fun _ => ?_)) (fun z => absurd z (by omega))
    rw [e6]
    refine ⟨pk_in 0 6 (by omega), pk_in s 28 (by omega), nm_e ⟨pk_in 0 6 (by omega), pk_in s 28 (by omega), nm_r (e' := upd t s 1) ?_ (br_t rfl (nm_r (e' := 1) rfl (H _ (cs_R_put h))))⟩⟩
    rw [nI_clamp (by omega)]
    rfl
  · intro n i t hi h hw
    refine pk_le 4 i (fun z => absurd z (by omega)) (fun _ => br_t rfl ⟨pk_in i 28 (by omega) (e3 i), nm_r (e' := upd t i 0) ?_ (nm_r (nI_1 i) (hw _ (cs_put (f := fun _ => 0) rfl h rfl)))⟩)
    rw [e3 i, nI_clamp (by omega)]
/-- state 1 of the machine: the row of state 0 stays -/
theorem cs_35b {post : St2 → Prop} {J : Int32 → Int32 → (Nat → Int32) → (Nat → Int32) → (Nat → Int32) → (Nat → Int32) → (Nat → Int32) → (Nat → Int32) → (Nat → Int32) → (Nat → Int32) → (Nat → Int32) → (Nat → Int32) → (Nat → Int32) → Prop} {s : Nat} (h7 : cs_R s 4 a7)
    (H : ∀ b, cs_R s 4 b → J 0 2 a1 a2 a3 a4 a5 a6 b a8 a9 a10 a11) :
    ∃ n, wX_buildMachine_35 post J 0 1 f0 f1 f2 1 f4 f5 f6 f7 f8 f9 f10 n 0 a1 a2 a3 a4 a5 a6 a7 a8 a9 a10 a11 := by
  have e3 : ∀ i, ((0 : Int32) * 4) + nI i = nI i := fun i => by rw [show ((0 : Int32) * 4) = nI 0 from rfl, nI_add, Nat.zero_add]
  have e4 : ∀ i, ((1 : Int32) * 4) + nI i = nI (4 + i) := fun i => by rw [show ((1 : Int32) * 4) = nI 4 from rfl, nI_add]
  refine pk_loop (fun n i t => wX_buildMachine_35 post J 0 1 f0 f1 f2 1 f4 f5 f6 f7 f8 f9 f10 n (nI i) a1 a2 a3 a4 a5 a6 t a8 a9 a10 a11) (fun _ t => cs_R s 4 t) 4 0 a7 (by omega) h7 ?_ ?_
  · intro n t h
    exact pk_le 4 4 (fun _ => pk_le 1 1 (fun _ => nm_r (e' := 2) rfl (H t h)) (fun z => absurd z (by omega))) (fun z => absurd z (by omega))
  · intro n i t hi h hw
    refine pk_le 4 i (fun z => absurd z (by omega)) (fun _ => br_f (by decide) ⟨pk_in i 28 (by omega) (e3 i), pk_in (4 + i) 28 (by omega) (e4 i), nm_r (e' := upd t (4 + i) (vp_nar .byte (t i))) ?_ (nm_r (nI_1 i) (hw _ (cs_R_keep (by omega) h)))⟩)
    rw [e3 i, e4 i, nI_clamp (by omega), nI_clamp (by omega)]
theorem cs_build {post : St2 → Prop} {s : Nat} (hs : s < 4) (h6 : a6 0 = nI s)
    (H : ∀ b, cs_R s 4 b → post (f0, f1, f2, 1, f4, f5, f6, f7, f8, f9, f10, a1, a2, a3, a4, a5, a6, b, a8, a9, a10, a11)) :
    wpX_buildMachine post (f0, f1, f2, 1, f4, f5, f6, f7, f8, f9, f10, a1, a2, a3, a4, a5, a6, a7, a8, a9, a10, a11) := by
  refine pk_loop (fun n i t => wX_buildMachine_2 post f0 f1 f2 1 f4 f5 f6 f7 f8 f9 f10 n (nI i) a1 a2 a3 a4 a5 a6 t a8 a9 a10 a11) (fun _ _ => True) 28 0 a7 (by omega) trivial ?_ ?_
  · intro n t _
    refine pk_le 28 28 (fun _ => ⟨0 + 1 + 1 + 1, ?_⟩) (fun z => absurd z (by omega))
    exact br_f (by decide) (cs_35a hs h6 (fun b hb => br_f (by decide) (cs_35b hb (fun d hd => br_t (by decide) (H d hd)))))
  · intro n i t hi _ hw
    exact pk_le 28 i (fun z => absurd z (by omega)) (fun _ => ⟨pk_in i 28 hi, nm_e (nm_r (nI_1 i) (hw _ trivial))⟩)
/-- the stores of a cell -/
theorem cs_129 {post : St2 → Prop} {i : Nat} {v x6 x7 x8 : Int32} (hi : i < 420) (hv : v.toInt16.toInt32 = v)
    (H : ∀ b8 b10 b11, post (f0, f1, f2, f3, f4, f5, f6, f7, f8, f9, f10, a1, a2, a3, a4, a5, a6, a7, b8, upd a9 i v, b10, b11)) :
    wX_fillCell_129 post (nI i) v x6 x7 x8 f0 f1 f2 f3 f4 f5 f6 f7 f8 f9 f10 a1 a2 a3 a4 a5 a6 a7 a8 a9 a10 a11 :=
  ⟨pk_in i 420 hi, fun b8 _ => ⟨pk_in i 420 hi, nm_r (e' := upd a9 i v) (by rw [nI_clamp (by omega), hv]) ⟨pk_in i 420 hi, fun b10 _ => ⟨pk_in i 420 hi, fun b11 _ => H b8 b10 b11⟩⟩⟩⟩
theorem cs_cell {post : St2 → Prop} {w s : Nat} (hw : w < 4) (hs : s < 2) (h : cs_W 4 a1 a2 a4)
    (H : ∀ b8 b10 b11, post (f0, f1, f2, 1, f4, f5, f6, f7, f8, f9, f10, a1, a2, a3, a4, a5, a6, a7, b8, upd a9 (w * 7 + s) (if a7 (s * 4 + w) = 1 then 1 else 0), b10, b11)) :
    wpX_fillCell post (f0, f1, f2, 1, f4, f5, f6, f7, f8, f9, f10, a1, a2, a3, a4, a5, a6, a7, a8, a9, a10, a11) (nI w) (nI s) := by
  have e1 : a1 (nI w).toNatClampNeg < 0 := by
    rw [nI_clamp (by omega), h.1 w hw]
    decide
  have e2 : (nI s * 4) + a2 (nI w).toNatClampNeg = nI (s * 4 + w) := by
    rw [nI_clamp (by omega), h.2.1 w hw, show (4 : Int32) = nI 4 from rfl, pk_mul, nI_add]
  have e7 : (nI w * 7) + nI s = nI (w * 7 + s) := by
    rw [show (7 : Int32) = nI 7 from rfl, pk_mul, nI_add]
  refine nm_r e7 ⟨pk_in w 60 (by omega), br_t e1 ?_⟩
  unfold wX_fillCell_77
  rw [e2]
  refine ⟨pk_in w 60 (by omega), pk_in (s * 4 + w) 28 (by omega), nm_r (e' := a7 (s * 4 + w)) (by rw [nI_clamp (by omega)]) ?_⟩
  by_cases g : a7 (s * 4 + w) = 1
  · rw [if_pos g] at H
    exact br_t g (nm_r (e' := 1) rfl ⟨pk_in w 60 (by omega), nm_e (br_c (fun _ => cs_129 (by omega) rfl H) (fun _ => cs_129 (by omega) rfl H))⟩)
  · rw [if_neg g] at H
    exact br_f g (cs_129 (by omega) rfl H)
/-- the tables of a new pattern of the one symbol s, over the four single words -/
theorem cs_fill {post : St2 → Prop} {s : Nat} (hs : s < 4) (h6 : a6 0 = nI s) (h : cs_W 4 a1 a2 a4)
    (H : ∀ b7 b8 b9 b10 b11, cs_M s 4 b9 → post (4, f1, f2, 1, 4, f5, f6, f7, f8, f9, f10, a1, a2, a3, a4, a5, a6, b7, b8, b9, b10, b11)) :
    wpX_fillTables post (4, f1, f2, 1, 0, f5, f6, f7, f8, f9, f10, a1, a2, a3, a4, a5, a6, a7, a8, a9, a10, a11) := by
  refine br_t rfl (cs_build hs h6 (fun b7 h7 => ?_))
  refine pk_loop (fun n i (t : (Nat → Int32) × (Nat → Int32) × (Nat → Int32) × (Nat → Int32)) => wX_fillTables_16 post n (nI i) 4 f1 f2 1 0 f5 f6 f7 f8 f9 f10 a1 a2 a3 a4 a5 a6 b7 t.1 t.2.1 t.2.2.1 t.2.2.2)
    (fun i t => cs_M s i t.2.1) 4 0 (a8, a9, a10, a11) (by omega) (fun j hj => absurd hj (by omega)) ?_ ?_
  · intro n t ht
    exact pk_le 4 4 (fun _ => H b7 t.1 t.2.1 t.2.2.1 t.2.2.2 ht) (fun z => absurd z (by omega))
  · intro n i t hi ht hw
    have hv : (if b7 (0 * 4 + i) = 1 then (1 : Int32) else 0) = if i = s then 1 else 0 := by
      rw [Nat.zero_mul, Nat.zero_add, h7 i hi]
      by_cases e : i = s
      · rw [if_pos e, if_pos rfl]
      · rw [if_neg e, if_neg (by decide)]
    refine pk_le 4 i (fun z => absurd z (by omega)) (fun _ => ⟨0 + 1 + 1 + 1, ?_⟩)
    refine br_f (by decide) (cs_cell (s := 0) hi (by omega) h (fun b8 b10 b11 => nm_r (e' := nI 1) rfl ?_))
    refine br_f (by decide) (cs_cell (s := 1) hi (by omega) h (fun d8 d10 d11 => nm_r (e' := nI 2) rfl ?_))
    exact br_t (by decide) (nm_r (nI_1 i) (hw (d8, _, d10, d11) (cs_M_put hv ht)))
/-- the tables stand already -/
theorem cs_fill4 {post : St2 → Prop}
    (H : post (4, f1, f2, f3, 4, f5, f6, f7, f8, f9, f10, a1, a2, a3, a4, a5, a6, a7, a8, a9, a10, a11)) :
    wpX_fillTables post (4, f1, f2, f3, 4, f5, f6, f7, f8, f9, f10, a1, a2, a3, a4, a5, a6, a7, a8, a9, a10, a11) :=
  br_f (by decide) ⟨0 + 1, br_t (by decide) H⟩
end
end
section
/-! count, symbol, wordLength, endingIn -/
section
variable {f0 f1 f2 f3 f4 f5 f6 f7 f8 f9 f10 : Int32} {a1 a2 a3 a4 a5 a6 a7 a8 a9 a10 a11 : Nat → Int32}
/-- no pattern -/
theorem cs_count_n {post : Int32 → St2 → Prop}
    (H : post 0 (f0, f1, f2, 0, f4, 1, 0, 0, (-1), (-1), 0, a1, a2, a3, a4, a5, a6, a7, a8, a9, a10, a11)) :
    wpX_count post (f0, f1, f2, 0, f4, 0, f6, f7, f8, f9, f10, a1, a2, a3, a4, a5, a6, a7, a8, a9, a10, a11) :=
  br_t rfl (br_t rfl H)
/-- a pattern, no code -/
theorem cs_count_0 {post : Int32 → St2 → Prop} {s : Nat} (hs : s < 4) (h6 : a6 0 = nI s) (h : cs_W 4 a1 a2 a4)
    (H : ∀ g6 g7 g8 g9 g10 b7 b8 b9 b10 b11, post 0 (4, 0, f2, 1, 4, 1, g6, g7, g8, g9, g10, a1, a2, a3, a4, a5, a6, b7, b8, b9, b10, b11)) :
    wpX_count post (4, 0, f2, 1, 0, 0, f6, f7, f8, f9, f10, a1, a2, a3, a4, a5, a6, a7, a8, a9, a10, a11) :=
  br_t rfl (br_f (by decide) (cs_fill hs h6 h (fun b7 b8 b9 b10 b11 _ => ⟨0 + 1, br_t (by decide) (H _ _ _ _ _ b7 b8 b9 b10 b11)⟩)))
theorem cs_pass {post : St2 → Prop} {i : Nat} {p0 p1 : Int32} (hi : i < 420) (hp : p0 = nI i)
    (H : ∀ g6 g8 g9, post (f0, f1, f2, f3, f4, f5, g6, if a9 i ≤ 0 then f7 else f7 + a9 i, g8, g9, f10, a1, a2, a3, a4, a5, a6, a7, a8, a9, a10, a11)) :
    wpX_pass post (f0, f1, f2, f3, f4, f5, f6, f7, f8, f9, f10, a1, a2, a3, a4, a5, a6, a7, a8, a9, a10, a11) p0 p1 := by
  subst hp
  have e : (nI i).toNatClampNeg = i := nI_clamp (by omega)
  have I : vp_in (nI i) 420 := pk_in i 420 hi
  unfold wpX_pass
  dsimp only
  rw [e]
  by_cases g : a9 i ≤ 0
  · rw [if_pos g] at H
    exact ⟨I, br_t g ⟨I, nm_e (H _ _ _)⟩⟩
  · rw [if_neg g] at H
    exact ⟨I, br_f g ⟨I, nm_e ⟨I, nm_e (br_c (fun _ => ⟨I, nm_e (H _ _ _)⟩) (fun _ => ⟨I, ⟨I, nm_e (H _ _ _)⟩⟩))⟩⟩⟩
/-- a pattern, the one code c -/
theorem cs_count_1 {post : Int32 → St2 → Prop} {c s : Nat} (hc : c < 4) (hs : s < 4) (h5 : a5 0 = nI c) (h6 : a6 0 = nI s) (h : cs_W 4 a1 a2 a4)
    (H : ∀ g6 g7 g8 g9 g10 b7 b8 b9 b10 b11, cs_M s 4 b9 → post (if c = s then 1 else 0) (4, 1, f2, 1, 4, 1, g6, g7, g8, g9, g10, a1, a2, a3, a4, a5, a6, b7, b8, b9, b10, b11)) :
    wpX_count post (4, 1, f2, 1, 0, 0, f6, f7, f8, f9, f10, a1, a2, a3, a4, a5, a6, a7, a8, a9, a10, a11) := by
  refine br_t rfl (br_f (by decide) (cs_fill hs h6 h (fun b7 b8 b9 b10 b11 hb => ⟨0 + 1 + 1, ?_⟩)))
  have e7 : nI c * 7 = nI (c * 7) := by rw [show (7 : Int32) = nI 7 from rfl, pk_mul]
  have ev : (if b9 (c * 7) ≤ 0 then (0 : Int32) else 0 + b9 (c * 7)) = if c = s then 1 else 0 := by
    rw [hb c hc]
    by_cases g : c = s
    · rw [if_pos g]
      decide
    · rw [if_neg g]
      decide
  refine br_f (by decide) ⟨pk_in 0 250 (by omega), nm_r (e' := nI c) (by rw [sb_cl0, h5]) (cs_pass (i := c * 7) (by omega) (by rw [e7, ← nI_0, nI_add, Nat.add_zero]) (fun g6 g8 g9 => ⟨pk_in (c * 7) 420 (by omega) e7, nm_e ⟨pk_in c 60 (by omega), nm_e (nm_r (e' := 1) rfl ?_)⟩⟩))⟩
  rw [ev]
  exact br_t (by decide) (H _ _ _ _ _ b7 b8 b9 b10 b11 hb)
theorem cs_sym_0 {post : Int32 → Prop} {k : Int32} (H : post (-1)) :
    wpX_symbol post (f0, f1, 0, f3, f4, f5, f6, f7, f8, f9, f10, a1, a2, a3, a4, a5, a6, a7, a8, a9, a10, a11) k :=
  br_c (fun _ => H) (fun z => br_f z H)
theorem cs_sym_1 {post : Int32 → Prop} {c : Nat} {k : Int32} (hc : c < 4) (h5 : a5 0 = nI c) (h : cs_W 4 a1 a2 a4) (H : post (if k = 0 then nI c else -1)) :
    wpX_symbol post (f0, 1, 1, f3, f4, f5, f6, f7, f8, f9, f10, a1, a2, a3, a4, a5, a6, a7, a8, a9, a10, a11) k := by
  by_cases g : k = 0
  · rw [if_pos g] at H
    subst g
    have e5 : a5 (0 : Int32).toNatClampNeg = nI c := by rw [sb_cl0, h5]
    refine br_f (by decide) (br_t (by decide) ⟨0 + 1, br_t (by decide) ⟨pk_in 0 250 (by omega), ?_⟩⟩)
    rw [e5]
    refine ⟨pk_in c 60 (by omega), nm_r (e' := 0) (by rw [nI_clamp (by omega), h.2.2 c hc]; rfl) ⟨0 + 1, br_t (by decide) ⟨pk_in c 60 (by omega), ?_⟩⟩⟩
    rw [nI_clamp (by omega), h.2.1 c hc]
    exact H
  · rw [if_neg g] at H
    refine br_c (fun _ => H) (fun z => ?_)
    obtain ⟨j, hj, rfl⟩ := nI_of z
    refine pk_lt j 1 (fun z => ?_) (fun _ => H)
    have e0 : j = 0 := by omega
    exact absurd (by rw [e0, nI_0]) g
theorem cs_len {post : Int32 → Prop} {w : Nat} (hw : w < 4) (h : cs_W 4 a1 a2 a4) (H : post 1) :
    wpX_wordLength post (4, f1, f2, f3, f4, f5, f6, f7, f8, f9, f10, a1, a2, a3, a4, a5, a6, a7, a8, a9, a10, a11) (nI w) := by
  refine br_f (nI_pos (by omega)) (pk_le 4 w (fun z => absurd z (by omega)) (fun _ => br_f (by decide) ⟨pk_in w 60 (by omega), ?_⟩))
  rw [nI_clamp (by omega), h.2.2 w hw]
  exact H
theorem cs_len_no {post : Int32 → Prop} {w : Int32} (hw : w < 0 ∨ nI 4 ≤ w) (H : post (-1)) :
    wpX_wordLength post (4, f1, f2, f3, f4, f5, f6, f7, f8, f9, f10, a1, a2, a3, a4, a5, a6, a7, a8, a9, a10, a11) w :=
  br_c (fun _ => br_t rfl H) (fun z => br_t (hw.resolve_left z) (br_t rfl H))
/-- no code -/
theorem cs_end_0 {post : Int32 → St2 → Prop} {k : Int32} (H : post 0 (f0, 0, f2, f3, f4, f5, f6, f7, f8, f9, f10, a1, a2, a3, a4, a5, a6, a7, a8, a9, a10, a11)) :
    wpX_endingIn post (f0, 0, f2, f3, f4, f5, f6, f7, f8, f9, f10, a1, a2, a3, a4, a5, a6, a7, a8, a9, a10, a11) k :=
  br_c (fun _ => H) (fun z => br_t (by obtain ⟨j, hj, rfl⟩ := nI_of z; exact nI_pos' hj) H)
/-- no pattern -/
theorem cs_end_n {post : Int32 → St2 → Prop} {k : Int32} (H : post 0 (f0, f1, f2, 0, f4, f5, f6, f7, f8, f9, f10, a1, a2, a3, a4, a5, a6, a7, a8, a9, a10, a11)) :
    wpX_endingIn post (f0, f1, f2, 0, f4, f5, f6, f7, f8, f9, f10, a1, a2, a3, a4, a5, a6, a7, a8, a9, a10, a11) k :=
  br_c (fun _ => H) (fun _ => br_c (fun _ => H) (fun _ => br_t rfl H))
theorem cs_end_1 {post : Int32 → St2 → Prop} {c s : Nat} {k : Int32} (hc : c < 4) (h5 : a5 0 = nI c) (h9 : cs_M s 4 a9)
    (H : post (if k = 0 then (if c = s then 1 else 0) else 0) (4, 1, f2, 1, 4, f5, f6, f7, f8, f9, f10, a1, a2, a3, a4, a5, a6, a7, a8, a9, a10, a11)) :
    wpX_endingIn post (4, 1, f2, 1, 4, f5, f6, f7, f8, f9, f10, a1, a2, a3, a4, a5, a6, a7, a8, a9, a10, a11) k := by
  by_cases g : k = 0
  · rw [if_pos g, ← h9 c hc] at H
    subst g
    have e7 : (a5 (0 : Int32).toNatClampNeg * 7) + 0 = nI (c * 7) := by
      rw [sb_cl0, h5, show (7 : Int32) = nI 7 from rfl, pk_mul, ← nI_0, nI_add, Nat.add_zero]
    refine br_f (by decide) (br_f (by decide) (br_f (by decide) (cs_fill4 ⟨0 + 1, br_t (by decide) ⟨pk_in 0 250 (by omega), pk_in (c * 7) 420 (by omega) e7, ?_⟩⟩)))
    rw [e7, nI_clamp (by omega)]
    exact H
  · rw [if_neg g] at H
    refine br_c (fun _ => H) (fun z => ?_)
    obtain ⟨j, hj, rfl⟩ := nI_of z
    refine pk_le 1 j (fun _ => H) (fun z => ?_)
    have e0 : j = 0 := by omega
    exact absurd (by rw [e0, nI_0]) g
end
end
section
/-! the law's own checks, then what is owed -/
theorem cs_ix (x : Int32) : ((x < 0 ∨ nI 4 ≤ x) ∧ (x < 0 ∨ nI 3 < x)) ∨ ∃ j : Nat, j < 4 ∧ x = nI j := by
  by_cases h : x < 0
  · exact Or.inl ⟨Or.inl h, Or.inl h⟩
  · obtain ⟨j, hj, rfl⟩ := nI_of h
    by_cases h2 : j < 4
    · exact Or.inr ⟨j, h2, rfl⟩
    · exact Or.inl ⟨Or.inr (nI_le (by omega) hj), Or.inr (nI_lt (by omega) hj)⟩
section
variable {f0 f1 f2 f3 f4 f5 f6 f7 f8 f9 f10 : Int32} {a1 a2 a3 a4 a5 a6 a7 a8 a9 a10 a11 : Nat → Int32}
theorem cs_lenA {post : Int32 → Prop} {w : Int32} (h : cs_W 4 a1 a2 a4) (H : post (if w < 0 then -1 else if 3 < w then -1 else 1)) :
    wpX_wordLength post (4, f1, f2, f3, f4, f5, f6, f7, f8, f9, f10, a1, a2, a3, a4, a5, a6, a7, a8, a9, a10, a11) w := by
  rcases cs_ix w with hw | ⟨j, hj, rfl⟩
  · refine cs_len_no hw.1 ?_
    by_cases g : w < 0
    · rw [if_pos g] at H
      exact H
    · have g3 : 3 < w := hw.2.resolve_left g
      rw [if_neg g, if_pos g3] at H
      exact H
  · have g : ¬ nI j < 0 := nI_pos (by omega)
    have g3 : ¬ 3 < nI j := nI_nlt (a := 3) (by omega) (by omega)
    rw [if_neg g, if_neg g3] at H
    exact cs_len hj h H
end
section
variable {post : Int32 → St0 → Prop} {mc ms kc ks : Nat} {x0 x1 x2 x3 x5 x6 x7 x8 x9 x10 g y q z : Int32}
theorem cs_t182 (e10 : x10 = if q = 0 then 0 else if x2 = 0 then 1 else 0) (H : post 1 ()) : wL_lawOf_182 post mc ms x2 x10 q z z kc ks := by
  refine br_t rfl (br_c (fun g => br_t ?_ H) (fun g => br_c (fun g2 => br_t ?_ H) (fun g2 => br_t ?_ H)))
  · rw [e10, if_pos g]
  · rw [e10, if_neg g, if_pos g2]
  · rw [e10, if_neg g, if_neg g2]
theorem cs_t163 (e9 : x9 = if x3 < 0 then -1 else if 3 < x3 then -1 else 1) (e10 : x10 = if q = 0 then 0 else if x2 = 0 then 1 else 0) (H : post 1 ()) : wL_lawOf_163 post mc ms x2 x3 x9 x10 q z z kc ks := by
  by_cases g : x3 < 0
  · rw [if_pos g] at e9
    subst e9
    exact br_t rfl (br_t g (cs_t182 e10 H))
  · by_cases g2 : 3 < x3
    · rw [if_neg g, if_pos g2] at e9
      subst e9
      exact br_t rfl (br_f g (br_t g2 (cs_t182 e10 H)))
    · rw [if_neg g, if_neg g2] at e9
      subst e9
      exact br_t rfl (br_f g (br_f g2 (cs_t182 e10 H)))
theorem cs_t144 (e8 : x8 = if g = 0 then -1 else if x2 = 0 then x0 else -1) (e9 : x9 = if x3 < 0 then -1 else if 3 < x3 then -1 else 1) (e10 : x10 = if q = 0 then 0 else if x2 = 0 then 1 else 0) (H : post 1 ()) : wL_lawOf_144 post mc ms x0 x2 x3 x8 x9 x10 g q z z kc ks := by
  by_cases h : g = 0
  · rw [if_pos h] at e8
    subst e8
    exact br_t rfl (br_t h (cs_t163 e9 e10 H))
  · by_cases h2 : x2 = 0
    · rw [if_neg h, if_pos h2] at e8
      subst e8
      exact br_t rfl (br_f h (br_t h2 (cs_t163 e9 e10 H)))
    · rw [if_neg h, if_neg h2] at e8
      subst e8
      exact br_t rfl (br_f h (br_f h2 (cs_t163 e9 e10 H)))
theorem cs_t122 (e7 : x7 = if q = 0 then 0 else 1) (e8 : x8 = if g = 0 then -1 else if x2 = 0 then x0 else -1) (e9 : x9 = if x3 < 0 then -1 else if 3 < x3 then -1 else 1) (e10 : x10 = if q = 0 then 0 else if x2 = 0 then 1 else 0) (H : post 1 ()) : wL_lawOf_122 post mc ms x0 x2 x3 y x7 x8 x9 x10 g y q z z kc ks := by
  by_cases h : q = 0
  · rw [if_pos h] at e7
    subst e7
    exact br_t rfl (br_t rfl (br_t h (cs_t144 e8 e9 e10 H)))
  · rw [if_neg h] at e7
    subst e7
    exact br_t rfl (br_t rfl (br_f h (cs_t144 e8 e9 e10 H)))
/-- what was answered: x5 by feed, y by extend, x7 by count, x8 by symbol, x9 by wordLength, x10 by endingIn; g: good, q: hit -/
theorem cs_t108 (e5 : x5 = if g = 0 then -1 else 1) (e7 : x7 = if q = 0 then 0 else 1) (e8 : x8 = if g = 0 then -1 else if x2 = 0 then x0 else -1) (e9 : x9 = if x3 < 0 then -1 else if 3 < x3 then -1 else 1) (e10 : x10 = if q = 0 then 0 else if x2 = 0 then 1 else 0) (H : post 1 ()) : wL_lawOf_108 post mc ms x0 x2 x3 x5 y x7 x8 x9 x10 g y q kc ks := by
  by_cases h : g = 0
  · rw [if_pos h] at e5
    subst e5
    exact br_t h (cs_t122 e7 e8 e9 e10 H)
  · rw [if_neg h] at e5
    subst e5
    exact br_f h (cs_t122 e7 e8 e9 e10 H)
theorem cs_t70y {s : Nat} (hs : s < 4) (H : wL_lawOf_86 post mc ms x0 (nI s) x2 x3 x5 x6 x7 x8 x9 x10 g 1 kc ks) : wL_lawOf_70 post mc ms x0 (nI s) x2 x3 x5 x6 x7 x8 x9 x10 g kc ks :=
  br_f (nI_pos (by omega)) (pk_lt 3 s (fun z => absurd z (by omega)) (fun _ => H))
theorem cs_t70n (hs : x1 < 0 ∨ nI 3 < x1) (H : wL_lawOf_86 post mc ms x0 x1 x2 x3 x5 x6 x7 x8 x9 x10 g 0 kc ks) : wL_lawOf_70 post mc ms x0 x1 x2 x3 x5 x6 x7 x8 x9 x10 g kc ks :=
  br_c (fun _ => H) (fun z => br_t (hs.resolve_left z) H)
end
theorem cs_lawOf {post : Int32 → St0 → Prop} (c s k w : Int32) (H : post 1 ()) : wpL_lawOf post 480 7664 () c s k w := by
  refine ⟨by omega, by omega, 11, 2204, by omega, by omega, cs_init (by omega) (by omega) (fun a1 a2 a3 a4 h => ?_)⟩
  rcases cs_ix c with hc | ⟨c, hc, rfl⟩
  · rcases cs_ix s with hs | ⟨s, hs, rfl⟩
    · refine cs_feed_no hc.1 (cs_ext_no hs.2 (cs_count_n (cs_sym_0 (cs_lenA h (cs_end_0 ?_)))))
      exact br_c (fun _ => cs_t70n hs.2 (br_t rfl (cs_t108 rfl rfl rfl rfl rfl H))) (fun z => br_t (hc.2.resolve_left z) (cs_t70n hs.2 (br_t rfl (cs_t108 rfl rfl rfl rfl rfl H))))
    · refine cs_feed_no hc.1 (cs_ext hs (cs_count_0 hs pk_us h (fun g6 g7 g8 g9 g10 b7 b8 b9 b10 b11 => cs_sym_0 (cs_lenA h (cs_end_0 ?_)))))
      exact br_c (fun _ => cs_t70y hs (br_t rfl (cs_t108 rfl rfl rfl rfl rfl H))) (fun z => br_t (hc.2.resolve_left z) (cs_t70y hs (br_t rfl (cs_t108 rfl rfl rfl rfl rfl H))))
  · rcases cs_ix s with hs | ⟨s, hs, rfl⟩
    · refine cs_feed hc h.2.2 (cs_ext_no hs.2 (cs_count_n (cs_sym_1 hc pk_us h (cs_lenA h (cs_end_n ?_)))))
      exact br_f (nI_pos (by omega)) (pk_lt 3 c (fun z => absurd z (by omega)) (fun _ => cs_t70n hs.2 (br_f (by decide) (br_t rfl (cs_t108 rfl rfl rfl rfl rfl H)))))
    · refine cs_feed hc h.2.2 (cs_ext hs (cs_count_1 hc hs pk_us pk_us h (fun g6 g7 g8 g9 g10 b7 b8 b9 b10 b11 hb => cs_sym_1 hc pk_us h (cs_lenA h (cs_end_1 hc pk_us hb ?_)))))
      refine br_f (nI_pos (by omega)) (pk_lt 3 c (fun z => absurd z (by omega)) (fun _ => cs_t70y hs (br_f (by decide) (br_f (by decide) (pk_eq c s (fun e => ?_) (fun e => ?_))))))
      · rw [if_pos e]
        exact cs_t108 rfl rfl rfl rfl rfl H
      · rw [if_neg e]
        exact cs_t108 rfl rfl rfl rfl (show (if k = 0 then (0 : Int32) else 0) = 0 from ite_self _) H
theorem cs_cellAt {post : Int32 → Prop} {L : Nat} {xs : Nat → Int32} (hL : L ≤ 4) (i : Nat) (hi : i < 4) (H : ∀ r, post r) : wpL_cellAt post L xs () (nI i) :=
  pk_le L i (fun _ => H _) (fun z => ⟨pk_in i L z, H _⟩)
theorem i_vc (xs : Nat → Int32) (L : Nat) (hL : L ≤ 4) : wpL_law (fun r => r = 1) L xs :=
  cs_cellAt hL 0 (by omega) (fun c => cs_cellAt hL 1 (by omega) (fun s => cs_cellAt hL 2 (by omega) (fun k => cs_cellAt hL 3 (by omega) (fun w => ⟨480, 7664, by omega, by omega, cs_lawOf c s k w rfl⟩))))
end
