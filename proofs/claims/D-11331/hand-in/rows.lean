section
/-! ===== small rows ===== -/
theorem bh_c2 : (2 : Int32).toNatClampNeg = 2 := by decide
theorem bh_c4 : (4 : Int32).toNatClampNeg = 4 := by decide
theorem bh_nar0 : vp_nar .boolean 0 = 0 := rfl
theorem bh_i1 : ¬ (1 : Int32) = 0 := by decide
theorem bh_upd0 {a : Nat → Int32} {k : Nat} (h : ∀ j, a j = 0) : ∀ j, upd a k 0 j = 0 := by
  intro j
  by_cases e : j = k
  · rw [e, pk_us]
  · rw [pk_un e]
    exact h j
section
variable {t w br : Int32} {f : Nat} {a1 a2 a3 a4 a5 a6 a7 a8 : Nat → Int32}
/-! ===== registers ===== -/
theorem bh_reg {post : Int32 → Prop} {x : Int32} (q : Nat) (hq : q < 6) (h : post 1) (hx : x = nI q := by rfl) : wpX_isRegister post () x := by
  subst hx
  exact pk_lt q 0 (fun z => absurd z (by omega)) (fun _ => pk_lt 5 q (fun z => absurd z (by omega)) (fun _ => h))
theorem bh_nreg {post : Int32 → Prop} {x : Int32} (hx : x < 0 ∨ 5 < x) (h : post 0) : wpX_isRegister post () x :=
  br_c (fun _ => h) (fun z => br_t (hx.resolve_left z) h)
/-! ===== make: the first record ===== -/
theorem bh_make77 {post : Int32 → St2 → Prop} (hf : f ≤ 6) (h1 : a1 0 = nI f) (h2 : ∀ j, a2 j = 0)
    (H : ∀ b1 b2 : Nat → Int32, b1 0 = nI f → (∀ j, 1 ≤ j → j < f + 1 → b1 j = 0) → (∀ j, b2 j = 0) → post 0 (nI (f + 1), w, br, b1, b2, upd a3 2 0, upd a4 2 1, a5, a6, a7, a8)) :
    ∃ n, wX_make_77 post 2 (nI f) 0 t w br n (nI 1) a1 a2 a3 a4 a5 a6 a7 a8 := by
  refine pk_loop (fun n i (s : (Nat → Int32) × (Nat → Int32)) => wX_make_77 post 2 (nI f) 0 t w br n (nI i) s.1 s.2 a3 a4 a5 a6 a7 a8)
    (fun i s => s.1 0 = nI f ∧ (∀ j, 1 ≤ j → j < i → s.1 j = 0) ∧ (∀ j, s.2 j = 0) ∧ 1 ≤ i) (f + 1) 1 (a1, a2) (by omega) ⟨h1, fun j h h' => absurd h' (by omega), h2, by omega⟩ ?_ ?_
  · intro n s h
    refine pk_lt f (f + 1) (fun _ => ?_) (fun z => absurd z (by omega)) (hx := Int32.zero_add _)
    refine nm_r (e' := nI (f + 1)) (by rw [Int32.zero_add, nI_1]) ⟨pk_in 2 6 (by omega), ?_⟩
    rw [bh_c2]
    exact nm_e ⟨pk_in 2 6 (by omega), nm_e (H s.1 s.2 h.1 h.2.1 h.2.2.1)⟩
  · intro n i s hi h hw
    refine pk_lt f i (fun z => absurd z (by omega)) (fun _ => ⟨pk_in i 72 (by omega), ?_⟩) (hx := Int32.zero_add _)
    rw [nI_clamp (show i < 2 ^ 31 by omega)]
    refine nm_e ⟨pk_in i 72 (by omega), nm_e (nm_r (nI_1 i) (hw (upd s.1 i 0, upd s.2 i 0) ⟨?_, ?_, bh_upd0 h.2.2.1, by omega⟩))⟩
    · have h0 : (0 : Nat) ≠ i := by have := h.2.2.2; omega
      show upd s.1 i 0 0 = nI f
      rw [pk_un h0]
      exact h.1
    · intro j hj hj'
      show upd s.1 i 0 j = 0
      by_cases e : j = i
      · rw [e, pk_us]
      · rw [pk_un e]
        exact h.2.1 j hj (by omega)
theorem bh_make {post : Int32 → St2 → Prop} (hf : f ≤ 6) (h0 : 1 ≤ f) (h2 : ∀ j, a2 j = 0)
    (H : ∀ b1 b2 : Nat → Int32, b1 0 = nI f → (∀ j, 1 ≤ j → j < f + 1 → b1 j = 0) → (∀ j, b2 j = 0) → post 0 (nI (f + 1), w, br, b1, b2, upd a3 2 0, upd a4 2 1, a5, a6, a7, a8)) :
    wpX_make post (0, w, br, a1, a2, a3, a4, a5, a6, a7, a8) 2 (nI f) := by
  unfold wpX_make
  refine bh_reg 2 (by omega) (br_f bh_i1 (pk_lt f 1 (fun z => absurd z (by omega)) (fun _ => pk_le f 6 (fun _ => ?_) (fun z => absurd z (by omega)))))
  refine pk_le (f + 1) 72 (fun _ => ?_) (fun z => absurd z (by omega)) (hx := nI_1 f)
  unfold wX_make_37
  refine pk_le (f + 1) 72 (fun _ => ⟨pk_in 0 72 (by omega), ?_⟩) (fun z => absurd z (by omega)) (hx := nI_1 f)
  rw [sb_cl0]
  exact nm_e ⟨pk_in 0 72 (by omega), nm_e (nm_r (e' := nI 1) rfl (bh_make77 hf pk_us (bh_upd0 h2) H))⟩
/-! ===== number ===== -/
theorem bh_number {post : Int32 → St2 → Prop} {v : Int32} (H : post 0 (t, w, br, a1, a2, upd a3 4 v, upd a4 4 0, a5, a6, a7, a8)) :
    wpX_number post (t, w, br, a1, a2, a3, a4, a5, a6, a7, a8) 4 v := by
  unfold wpX_number
  refine bh_reg 4 (by omega) (br_f bh_i1 ⟨pk_in 4 6 (by omega), ?_⟩)
  rw [bh_c4]
  exact nm_e ⟨pk_in 4 6 (by omega), nm_e H⟩
/-! ===== hasField ===== -/
theorem bh_has_t {post : Int32 → Prop} {k : Nat} (hf : f ≤ 6) (hk : k < f) (h1 : a1 0 = nI f) (h3 : a3 2 = 0) (h4 : a4 2 = 1) (H : post 1) :
    wpX_hasField post (t, w, br, a1, a2, a3, a4, a5, a6, a7, a8) 2 (nI k) := by
  unfold wpX_hasField
  dsimp only
  rw [bh_c2, h3, sb_cl0, h1, h4]
  exact ⟨pk_in 2 6 (by omega), br_f bh_i1 (pk_lt k 0 (fun z => absurd z (by omega)) (fun _ => ⟨pk_in 2 6 (by omega), pk_in 0 72 (by omega), pk_le f k (fun z => absurd z (by omega)) (fun _ => H)⟩))⟩
theorem bh_has_f {post : Int32 → Prop} {x : Int32} (h1 : a1 0 = nI f) (h3 : a3 2 = 0) (h4 : a4 2 = 1) (hx : x < 0 ∨ nI f ≤ x) (H : post 0) :
    wpX_hasField post (t, w, br, a1, a2, a3, a4, a5, a6, a7, a8) 2 x := by
  unfold wpX_hasField
  dsimp only
  rw [bh_c2, h3, sb_cl0, h1, h4]
  exact ⟨pk_in 2 6 (by omega), br_f bh_i1 (br_c (fun _ => H) (fun z => ⟨pk_in 2 6 (by omega), pk_in 0 72 (by omega), br_t (hx.resolve_left z) H⟩))⟩
theorem bh_has_4 {post : Int32 → Prop} {x : Int32} (h4 : a4 4 = 0) (H : post 0) :
    wpX_hasField post (t, w, br, a1, a2, a3, a4, a5, a6, a7, a8) 4 x := by
  unfold wpX_hasField
  dsimp only
  rw [bh_c4, h4]
  exact ⟨pk_in 4 6 (by omega), br_t rfl H⟩
/-! ===== store ===== -/
theorem bh_store_t {post : Int32 → St2 → Prop} {v : Int32} {k : Nat} (hf : f ≤ 6) (hk : k < f) (h1 : a1 0 = nI f) (h3 : a3 2 = 0) (h34 : a3 4 = v) (h4 : a4 2 = 1) (h44 : a4 4 = 0)
    (H : post 0 (t, w, br, upd a1 (k + 1) v, upd a2 (k + 1) 0, a3, a4, a5, a6, a7, a8)) :
    wpX_store post (t, w, br, a1, a2, a3, a4, a5, a6, a7, a8) 2 (nI k) 4 := by
  unfold wpX_store
  refine bh_reg 2 (by omega) (br_f bh_i1 (bh_reg 4 (by omega) (br_f bh_i1 (bh_has_t hf hk h1 h3 h4 (br_f bh_i1 ⟨pk_in 2 6 (by omega), ?_⟩)))))
  rw [bh_c2, bh_c4, h3, h34, h44, bh_nar0]
  refine nm_r (e' := nI (k + 1)) ?_ ⟨pk_in 4 6 (by omega), pk_in (k + 1) 72 (by omega), ?_⟩
  · rw [Int32.zero_add, Int32.add_comm, nI_1]
  · rw [nI_clamp (show k + 1 < 2 ^ 31 by omega)]
    exact nm_e ⟨pk_in 4 6 (by omega), pk_in (k + 1) 72 (by omega), nm_e H⟩
theorem bh_store_f {post : Int32 → St2 → Prop} {x : Int32} (h1 : a1 0 = nI f) (h3 : a3 2 = 0) (h4 : a4 2 = 1) (hx : x < 0 ∨ nI f ≤ x)
    (H : post (-3) (t, w, br, a1, a2, a3, a4, a5, a6, a7, a8)) :
    wpX_store post (t, w, br, a1, a2, a3, a4, a5, a6, a7, a8) 2 x 4 := by
  unfold wpX_store
  exact bh_reg 2 (by omega) (br_f bh_i1 (bh_reg 4 (by omega) (br_f bh_i1 (bh_has_f h1 h3 h4 hx (br_t rfl H)))))
theorem bh_store_4 {post : Int32 → St2 → Prop} {x : Int32} (h44 : a4 4 = 0)
    (H : post (-3) (t, w, br, a1, a2, a3, a4, a5, a6, a7, a8)) :
    wpX_store post (t, w, br, a1, a2, a3, a4, a5, a6, a7, a8) 4 x 2 := by
  unfold wpX_store
  exact bh_reg 4 (by omega) (br_f bh_i1 (bh_reg 2 (by omega) (br_f bh_i1 (bh_has_4 h44 (br_t rfl H)))))
/-! ===== load ===== -/
theorem bh_load_t {post : Int32 → St2 → Prop} {k q : Nat} (hf : f ≤ 6) (hk : k < f) (hq : q < 6) (h1 : a1 0 = nI f) (h2 : ∀ j, a2 j = 0) (h3 : a3 2 = 0) (h4 : a4 2 = 1)
    (H : post 0 (t, w, br, a1, a2, upd a3 q (a1 (k + 1)), upd a4 q 0, a5, a6, a7, a8)) :
    wpX_load post (t, w, br, a1, a2, a3, a4, a5, a6, a7, a8) (nI q) 2 (nI k) := by
  unfold wpX_load
  refine bh_reg q hq (br_f bh_i1 (bh_reg 2 (by omega) (br_f bh_i1 (bh_has_t hf hk h1 h3 h4 (br_f bh_i1 ⟨pk_in 2 6 (by omega), ?_⟩)))))
  rw [bh_c2, h3, nI_clamp (show q < 2 ^ 31 by omega)]
  refine nm_r (e' := nI (k + 1)) ?_ ⟨pk_in (k + 1) 72 (by omega), pk_in q 6 hq, ?_⟩
  · rw [Int32.zero_add, Int32.add_comm, nI_1]
  · rw [nI_clamp (show k + 1 < 2 ^ 31 by omega), h2, bh_nar0]
    exact nm_e ⟨pk_in (k + 1) 72 (by omega), pk_in q 6 hq, nm_e H⟩
theorem bh_load_f {post : Int32 → St2 → Prop} {x : Int32} {q : Nat} (hq : q < 6) (h1 : a1 0 = nI f) (h3 : a3 2 = 0) (h4 : a4 2 = 1) (hx : x < 0 ∨ nI f ≤ x)
    (H : post (-3) (t, w, br, a1, a2, a3, a4, a5, a6, a7, a8)) :
    wpX_load post (t, w, br, a1, a2, a3, a4, a5, a6, a7, a8) (nI q) 2 x := by
  unfold wpX_load
  exact bh_reg q hq (br_f bh_i1 (bh_reg 2 (by omega) (br_f bh_i1 (bh_has_f h1 h3 h4 hx (br_t rfl H)))))
theorem bh_load_n {post : Int32 → St2 → Prop} {x y : Int32} (hy : y < 0 ∨ 5 < y)
    (H : post (-1) (t, w, br, a1, a2, a3, a4, a5, a6, a7, a8)) :
    wpX_load post (t, w, br, a1, a2, a3, a4, a5, a6, a7, a8) y 2 x := by
  unfold wpX_load
  exact bh_nreg hy (br_t rfl H)
/-! ===== value, fields ===== -/
theorem bh_value {post : Int32 → Prop} {q : Nat} (hq : q < 6) (h : a4 q = 0 → post (a3 q)) (h' : ¬ a4 q = 0 → post 0) :
    wpX_value post (t, w, br, a1, a2, a3, a4, a5, a6, a7, a8) (nI q) := by
  unfold wpX_value
  refine bh_reg q hq (br_f bh_i1 ⟨pk_in q 6 hq, ?_⟩)
  rw [nI_clamp (show q < 2 ^ 31 by omega)]
  exact br_c (fun z => ⟨pk_in q 6 hq, h z⟩) h'
theorem bh_value_n {post : Int32 → Prop} {y : Int32} (hy : y < 0 ∨ 5 < y) (h : post 0) :
    wpX_value post (t, w, br, a1, a2, a3, a4, a5, a6, a7, a8) y := by
  unfold wpX_value
  exact bh_nreg hy (br_t rfl h)
theorem bh_fields_t {post : Int32 → Prop} (h1 : a1 0 = nI f) (h3 : a3 2 = 0) (h4 : a4 2 = 1) (h : post (nI f)) :
    wpX_fields post (t, w, br, a1, a2, a3, a4, a5, a6, a7, a8) 2 := by
  unfold wpX_fields
  refine bh_reg 2 (by omega) (br_f bh_i1 ⟨pk_in 2 6 (by omega), ?_⟩)
  rw [bh_c2, h3, sb_cl0, h1, h4]
  exact br_f bh_i1 ⟨pk_in 2 6 (by omega), pk_in 0 72 (by omega), h⟩
theorem bh_fields_f {post : Int32 → Prop} (h4 : a4 2 = 0) (h : post 0) :
    wpX_fields post (t, w, br, a1, a2, a3, a4, a5, a6, a7, a8) 2 := by
  unfold wpX_fields
  refine bh_reg 2 (by omega) (br_f bh_i1 ⟨pk_in 2 6 (by omega), ?_⟩)
  rw [bh_c2, h4]
  exact br_t rfl h
end
end
section
section
variable {t w br : Int32} {f : Nat} {a1 a2 a3 a4 a5 a6 a7 a8 : Nat → Int32} {post : St2 → Prop}
/-! ===== markReached: one record at 0, or none reached ===== -/
theorem bh_reach (h5 : a5 0 = 0) (H : post (t, 1, br, a1, a2, a3, a4, upd a5 0 1, upd a6 0 0, a7, a8)) :
    wpX_reach post (t, 0, br, a1, a2, a3, a4, a5, a6, a7, a8) 0 := by
  unfold wpX_reach
  dsimp only
  rw [sb_cl0]
  exact ⟨pk_in 0 72 (by omega), br_t h5 ⟨pk_in 0 72 (by omega), nm_e ⟨pk_in 0 40 (by omega), nm_e (nm_r (e' := 1) (by decide) H)⟩⟩⟩
theorem bh_m98 {J : Int32 → Int32 → Int32 → Int32 → (Nat → Int32) → (Nat → Int32) → (Nat → Int32) → (Nat → Int32) → (Nat → Int32) → (Nat → Int32) → (Nat → Int32) → (Nat → Int32) → Prop} {x1 : Int32}
    (hf : f ≤ 6) (h1 : a1 0 = nI f) (h2 : ∀ j, a2 j = 0) (H : J (x1 + 1) t w br a1 a2 a3 a4 a5 a6 a7 a8) :
    ∃ n, wX_markReached_98 post J x1 0 n (nI 1) t w br a1 a2 a3 a4 a5 a6 a7 a8 :=
  pk_loop (σ := Unit) (fun n i _ => wX_markReached_98 post J x1 0 n (nI i) t w br a1 a2 a3 a4 a5 a6 a7 a8) (fun _ _ => True) (f + 1) 1 () (by omega) trivial
    (fun n _ _ => ⟨pk_in 0 72 (by omega), pk_lt f (f + 1) (fun _ => nm_e H) (fun z => absurd z (by omega)) (hx := by rw [sb_cl0, h1, Int32.zero_add])⟩)
    (fun n i _ hi _ hw => ⟨pk_in 0 72 (by omega), pk_lt f i (fun z => absurd z (by omega)) (fun _ => ⟨pk_in i 72 (by omega), br_t (h2 _) (nm_r (nI_1 i) (hw () trivial))⟩) (hx := by rw [sb_cl0, h1, Int32.zero_add])⟩)
theorem bh_m61 (hf : f ≤ 6) (h1 : a1 0 = nI f) (h2 : ∀ j, a2 j = 0) (h6 : a6 0 = 0) (H : post (t, 0, br, a1, a2, a3, a4, a5, a6, a7, a8)) :
    ∃ n, wX_markReached_61 post n 0 t 1 br a1 a2 a3 a4 a5 a6 a7 a8 := by
  refine ⟨0 + 1 + 1, ?_⟩
  refine pk_le 37 0 (fun z => absurd z (by omega)) (fun _ => pk_le 1 0 (fun z => absurd z (by omega)) (fun _ => ?_))
  refine nm_r (e' := 0) (by decide) ⟨pk_in 0 40 (by omega), ?_⟩
  rw [sb_cl0, h6]
  refine nm_e (nm_r (e' := nI 1) rfl (bh_m98 hf h1 h2 ?_))
  exact pk_le 37 1 (fun z => absurd z (by omega)) (fun _ => pk_le 0 0 (fun _ => H) (fun z => absurd z (by omega)))
theorem bh_m61g (H : post (t, 0, br, a1, a2, a3, a4, a5, a6, a7, a8)) :
    ∃ n, wX_markReached_61 post n 0 t 0 br a1 a2 a3 a4 a5 a6 a7 a8 :=
  ⟨0 + 1, pk_le 37 0 (fun z => absurd z (by omega)) (fun _ => pk_le 0 0 (fun _ => H) (fun z => absurd z (by omega)))⟩
theorem bh_m28 (hf : f ≤ 6) (h1 : a1 0 = nI f) (h2 : ∀ j, a2 j = 0) (h3 : a3 2 = 0) (h4 : a4 2 = 1) (h4' : ∀ r, r < 6 → r ≠ 2 → a4 r = 0) (h5 : a5 0 = 0)
    (H : ∀ b5 b6 : Nat → Int32, ¬ b5 0 = 0 → post (t, 0, br, a1, a2, a3, a4, b5, b6, a7, a8)) :
    ∃ n, wX_markReached_28 post n 0 t 0 br a1 a2 a3 a4 a5 a6 a7 a8 := by
  refine pk_loop (fun n i (s : Int32 × (Nat → Int32) × (Nat → Int32)) => wX_markReached_28 post n (nI i) t s.1 br a1 a2 a3 a4 s.2.1 s.2.2 a7 a8)
    (fun i s => (i ≤ 2 → s.1 = 0 ∧ s.2.1 0 = 0) ∧ (2 < i → s.1 = 1 ∧ ¬ s.2.1 0 = 0 ∧ s.2.2 0 = 0)) 6 0 (0, a5, a6) (by omega) ⟨fun _ => ⟨rfl, h5⟩, fun z => absurd z (by omega)⟩ ?_ ?_
  · rintro n ⟨w', b5, b6⟩ ⟨_, h⟩
    obtain ⟨e, hb5, hb6⟩ := h (by omega)
    have e : w' = 1 := e
    subst e
    exact pk_le 6 6 (fun _ => bh_m61 hf h1 h2 hb6 (H b5 b6 hb5)) (fun z => absurd z (by omega))
  · rintro n i ⟨w', b5, b6⟩ hi ⟨ha, hb⟩ hw
    refine pk_le 6 i (fun z => absurd z (by omega)) (fun _ => ⟨pk_in i 6 hi, ?_⟩)
    rw [nI_clamp (show i < 2 ^ 31 by omega)]
    by_cases e : i = 2
    · subst e
      obtain ⟨e, hb5⟩ := ha (by omega)
      have e : w' = 0 := e
      subst e
      refine br_f (by rw [h4]; exact bh_i1) ⟨pk_in 2 6 (by omega), ?_⟩
      rw [h3]
      refine bh_reach hb5 (nm_r (nI_1 2) (hw (1, upd b5 0 1, upd b6 0 0) ⟨fun z => absurd z (by omega), fun _ => ⟨rfl, ?_, pk_us (f := b6) (k := 0) (x := 0)⟩⟩))
      show ¬ upd b5 0 1 0 = 0
      rw [pk_us]
      exact bh_i1
    · exact br_t (h4' i hi e) (nm_r (nI_1 i) (hw (w', b5, b6) ⟨fun z => ha (by omega), fun z => hb (by omega)⟩))
theorem bh_m28g (h4 : ∀ r, r < 6 → a4 r = 0) (H : post (t, 0, br, a1, a2, a3, a4, a5, a6, a7, a8)) :
    ∃ n, wX_markReached_28 post n 0 t 0 br a1 a2 a3 a4 a5 a6 a7 a8 :=
  pk_loop (σ := Unit) (fun n i _ => wX_markReached_28 post n (nI i) t 0 br a1 a2 a3 a4 a5 a6 a7 a8) (fun _ _ => True) 6 0 () (by omega) trivial
    (fun n _ _ => pk_le 6 6 (fun _ => bh_m61g H) (fun z => absurd z (by omega)))
    (fun n i _ hi _ hw => pk_le 6 i (fun z => absurd z (by omega)) (fun _ => ⟨pk_in i 6 hi, br_t (by rw [nI_clamp (show i < 2 ^ 31 by omega)]; exact h4 i hi) (nm_r (nI_1 i) (hw () trivial))⟩))
theorem bh_m2 (H : ∀ b5 : Nat → Int32, b5 0 = 0 → ∃ n, wX_markReached_28 post n 0 t 0 br a1 a2 a3 a4 b5 a6 a7 a8) :
    wpX_markReached post (t, w, br, a1, a2, a3, a4, a5, a6, a7, a8) := by
  unfold wpX_markReached
  refine pk_loop (fun n i (s : Nat → Int32) => wX_markReached_2 post t w br n (nI i) a1 a2 a3 a4 s a6 a7 a8) (fun i s => 0 < i → s 0 = 0) 72 0 a5 (by omega) (fun z => absurd z (by omega)) ?_ ?_
  · intro n s h
    exact pk_le 72 72 (fun _ => H s (h (by omega))) (fun z => absurd z (by omega))
  · intro n i s hi h hw
    refine pk_le 72 i (fun z => absurd z (by omega)) (fun _ => ⟨pk_in i 72 hi, ?_⟩)
    rw [nI_clamp (show i < 2 ^ 31 by omega)]
    refine nm_e (nm_r (nI_1 i) (hw (upd s i 0) (fun _ => ?_)))
    by_cases e : 0 = i
    · subst e
      exact pk_us
    · rw [pk_un e]
      exact h (by omega)
theorem bh_mark (hf : f ≤ 6) (h1 : a1 0 = nI f) (h2 : ∀ j, a2 j = 0) (h3 : a3 2 = 0) (h4 : a4 2 = 1) (h4' : ∀ r, r < 6 → r ≠ 2 → a4 r = 0)
    (H : ∀ b5 b6 : Nat → Int32, ¬ b5 0 = 0 → post (t, 0, br, a1, a2, a3, a4, b5, b6, a7, a8)) :
    wpX_markReached post (t, w, br, a1, a2, a3, a4, a5, a6, a7, a8) :=
  bh_m2 (fun _ h5 => bh_m28 hf h1 h2 h3 h4 h4' h5 H)
theorem bh_markg (h4 : ∀ r, r < 6 → a4 r = 0) (H : ∀ b5 : Nat → Int32, b5 0 = 0 → post (t, 0, br, a1, a2, a3, a4, b5, a6, a7, a8)) :
    wpX_markReached post (t, w, br, a1, a2, a3, a4, a5, a6, a7, a8) :=
  bh_m2 (fun b5 h5 => bh_m28g h4 (H b5 h5))
/-! ===== listBreaks: no break ===== -/
theorem bh_list (hf : f ≤ 6) (h1 : a1 0 = nI f) (H : post (nI (f + 1), w, 0, a1, a2, a3, a4, a5, a6, a7, a8)) :
    wpX_listBreaks post (nI (f + 1), w, br, a1, a2, a3, a4, a5, a6, a7, a8) := by
  unfold wpX_listBreaks
  have E : ∀ x1 x2 : Int32, wX_listBreaks_14 post (nI (f + 1)) w (0 + 1) x1 x2 (nI (f + 1)) 1 0 a1 a2 a3 a4 a5 a6 a7 a8 := fun _ _ =>
    pk_le 37 1 (fun z => absurd z (by omega)) (fun _ => pk_le (f + 1) (f + 1) (fun _ => H) (fun z => absurd z (by omega)))
  refine ⟨0 + 1 + 1, ?_⟩
  refine pk_le 37 0 (fun z => absurd z (by omega)) (fun _ => pk_le (f + 1) 0 (fun z => absurd z (by omega)) (fun _ => ⟨pk_in 0 72 (by omega), ?_⟩))
  refine nm_r (e' := nI (f + 1)) (by rw [sb_cl0, h1, nI_1]) ⟨pk_in 0 72 (by omega), br_c (fun _ => ?_) (fun _ => br_t rfl ?_)⟩
  · exact nm_e (nm_r (Int32.zero_add _) (nm_r (e' := 1) (by decide) (E _ _)))
  · exact nm_r (Int32.zero_add _) (nm_r (e' := 1) (by decide) (E _ _))
/-! ===== movedAddress: no break ===== -/
theorem bh_moved {p : Int32 → Prop} {x : Int32} (H : p x) : wpX_movedAddress p (t, w, 0, a1, a2, a3, a4, a5, a6, a7, a8) x := by
  unfold wpX_movedAddress
  exact ⟨0 + 1, pk_le 7 0 (fun z => absurd z (by omega)) (fun _ => pk_le 0 0 (fun _ => br_t rfl H) (fun z => absurd z (by omega)))⟩
/-! ===== mendFields: nothing to mend ===== -/
theorem bh_mend (hf : f ≤ 6) (h1 : a1 0 = nI f) (h2 : ∀ j, a2 j = 0) (H : post (nI (f + 1), w, br, a1, a2, a3, a4, a5, a6, a7, a8)) :
    wpX_mendFields post (nI (f + 1), w, br, a1, a2, a3, a4, a5, a6, a7, a8) := by
  unfold wpX_mendFields
  refine ⟨0 + 1 + 1, ?_⟩
  refine pk_le 37 0 (fun z => absurd z (by omega)) (fun _ => pk_le (f + 1) 0 (fun z => absurd z (by omega)) (fun _ => ⟨pk_in 0 72 (by omega), ?_⟩))
  refine nm_r (e' := nI (f + 1)) (by rw [sb_cl0, h1, nI_1]) (nm_r (e' := nI 1) rfl ?_)
  refine pk_loop (σ := Unit) (fun n i _ => wX_mendFields_32 post (wX_mendFields_4 post (nI (f + 1)) w br (0 + 1)) 0 0 (nI (f + 1)) (nI (f + 1)) w br n (nI i) a1 a2 a3 a4 a5 a6 a7 a8) (fun _ _ => True) (f + 1) 1 () (by omega) trivial ?_ ?_
  · intro n _ _
    refine pk_le (f + 1) (f + 1) (fun _ => ?_) (fun z => absurd z (by omega)) (hx := Int32.zero_add _)
    refine nm_r (Int32.zero_add _) (nm_r (e' := 1) (by decide) ?_)
    exact pk_le 37 1 (fun z => absurd z (by omega)) (fun _ => pk_le (f + 1) (f + 1) (fun _ => H) (fun z => absurd z (by omega)))
  · intro n i _ hi _ hw
    refine pk_le (f + 1) i (fun z => absurd z (by omega)) (fun _ => ⟨pk_in 0 72 (by omega), ?_⟩) (hx := Int32.zero_add _)
    exact br_c (fun _ => nm_r (nI_1 i) (hw () trivial)) (fun _ => ⟨pk_in i 72 (by omega), br_t (h2 _) (nm_r (nI_1 i) (hw () trivial))⟩)
/-! ===== slideDown ===== -/
theorem bh_slide (hf : f ≤ 6) (h1 : a1 0 = nI f) (h5 : ¬ a5 0 = 0) (H : ∀ b1 b2 : Nat → Int32, post (nI (f + 1), w, br, b1, b2, a3, a4, a5, a6, a7, a8)) :
    wpX_slideDown post (nI (f + 1), w, br, a1, a2, a3, a4, a5, a6, a7, a8) := by
  unfold wpX_slideDown
  refine ⟨0 + 1 + 1, ?_⟩
  refine pk_le 37 0 (fun z => absurd z (by omega)) (fun _ => pk_le (f + 1) 0 (fun z => absurd z (by omega)) (fun _ => ⟨pk_in 0 72 (by omega), ?_⟩))
  refine nm_r (e' := nI (f + 1)) (by rw [sb_cl0, h1, nI_1]) ⟨pk_in 0 72 (by omega), br_f (by rw [sb_cl0]; exact h5) ?_⟩
  refine pk_loop (fun n i (s : (Nat → Int32) × (Nat → Int32)) => wX_slideDown_46 post (wX_slideDown_12 post (nI (f + 1)) (nI (f + 1)) w br (0 + 1)) 0 0 (nI (f + 1)) 0 (nI (f + 1)) (nI (f + 1)) w br n (nI i) s.1 s.2 a3 a4 a5 a6 a7 a8) (fun _ _ => True) (f + 1) 0 (a1, a2) (by omega) trivial ?_ ?_
  · intro n s _
    refine pk_le (f + 1) (f + 1) (fun _ => ?_) (fun z => absurd z (by omega))
    refine nm_r (Int32.zero_add _) (nm_r (Int32.zero_add _) (nm_r (e' := 1) (by decide) ?_))
    exact pk_le 37 1 (fun z => absurd z (by omega)) (fun _ => pk_le (f + 1) (f + 1) (fun _ => H s.1 s.2) (fun z => absurd z (by omega)))
  · intro n i s hi _ hw
    have hv : vp_in ((0 : Int32) + nI i) 72 := pk_in i 72 (by omega) (Int32.zero_add _)
    refine pk_le (f + 1) i (fun z => absurd z (by omega)) (fun _ => ⟨hv, hv, nm_e ⟨hv, hv, nm_e (nm_r (nI_1 i) (hw (_, _) trivial))⟩⟩)
theorem bh_slideg (hf : f ≤ 6) (h1 : a1 0 = nI f) (h5 : a5 0 = 0) (H : post (0, w, br, a1, a2, a3, a4, a5, a6, a7, a8)) :
    wpX_slideDown post (nI (f + 1), w, br, a1, a2, a3, a4, a5, a6, a7, a8) := by
  unfold wpX_slideDown
  refine ⟨0 + 1 + 1, ?_⟩
  refine pk_le 37 0 (fun z => absurd z (by omega)) (fun _ => pk_le (f + 1) 0 (fun z => absurd z (by omega)) (fun _ => ⟨pk_in 0 72 (by omega), ?_⟩))
  refine nm_r (e' := nI (f + 1)) (by rw [sb_cl0, h1, nI_1]) ⟨pk_in 0 72 (by omega), br_t (by rw [sb_cl0]; exact h5) ?_⟩
  refine nm_r (Int32.zero_add _) (nm_r (e' := 1) (by decide) ?_)
  exact pk_le 37 1 (fun z => absurd z (by omega)) (fun _ => pk_le (f + 1) (f + 1) (fun _ => H) (fun z => absurd z (by omega)))
/-! ===== squeeze, collect ===== -/
theorem bh_sq10 (hf : f ≤ 6) (h1 : a1 0 = nI f) (h2 : ∀ j, a2 j = 0) (h5 : ¬ a5 0 = 0) (H : ∀ u : St2, u.1 = nI (f + 1) → post u) :
    ∃ n, wX_squeeze_10 post (nI (f + 1)) w 0 n 0 a1 a2 a3 a4 a5 a6 a7 a8 := by
  refine pk_loop (fun n i (s : Nat → Int32) => wX_squeeze_10 post (nI (f + 1)) w 0 n (nI i) a1 a2 s a4 a5 a6 a7 a8) (fun _ _ => True) 6 0 a3 (by omega) trivial ?_ ?_
  · intro n s _
    exact pk_le 6 6 (fun _ => bh_mend hf h1 h2 (bh_slide hf h1 h5 (fun b1 b2 => H _ rfl))) (fun z => absurd z (by omega))
  · intro n i s hi _ hw
    exact pk_le 6 i (fun z => absurd z (by omega)) (fun _ => ⟨pk_in i 6 hi, br_c (fun _ => nm_r (nI_1 i) (hw s trivial)) (fun _ => ⟨pk_in i 6 hi, bh_moved ⟨pk_in i 6 hi, nm_e (nm_r (nI_1 i) (hw _ trivial))⟩⟩)⟩)
theorem bh_sq10g (hf : f ≤ 6) (h1 : a1 0 = nI f) (h2 : ∀ j, a2 j = 0) (h5 : a5 0 = 0) (H : ∀ u : St2, u.1 = 0 → post u) :
    ∃ n, wX_squeeze_10 post (nI (f + 1)) w 0 n 0 a1 a2 a3 a4 a5 a6 a7 a8 := by
  refine pk_loop (fun n i (s : Nat → Int32) => wX_squeeze_10 post (nI (f + 1)) w 0 n (nI i) a1 a2 s a4 a5 a6 a7 a8) (fun _ _ => True) 6 0 a3 (by omega) trivial ?_ ?_
  · intro n s _
    exact pk_le 6 6 (fun _ => bh_mend hf h1 h2 (bh_slideg hf h1 h5 (H _ rfl))) (fun z => absurd z (by omega))
  · intro n i s hi _ hw
    exact pk_le 6 i (fun z => absurd z (by omega)) (fun _ => ⟨pk_in i 6 hi, br_c (fun _ => nm_r (nI_1 i) (hw s trivial)) (fun _ => ⟨pk_in i 6 hi, bh_moved ⟨pk_in i 6 hi, nm_e (nm_r (nI_1 i) (hw _ trivial))⟩⟩)⟩)
theorem bh_squeeze (hf : f ≤ 6) (h1 : a1 0 = nI f) (h2 : ∀ j, a2 j = 0) (h3 : a3 2 = 0) (h4 : a4 2 = 1) (h4' : ∀ r, r < 6 → r ≠ 2 → a4 r = 0) (H : ∀ u : St2, u.1 = nI (f + 1) → post u) :
    wpX_squeeze post (nI (f + 1), w, br, a1, a2, a3, a4, a5, a6, a7, a8) := by
  unfold wpX_squeeze
  exact bh_mark hf h1 h2 h3 h4 h4' (fun b5 b6 h5 => bh_list hf h1 (bh_sq10 hf h1 h2 h5 H))
theorem bh_squeezeg (hf : f ≤ 6) (h1 : a1 0 = nI f) (h2 : ∀ j, a2 j = 0) (h4 : ∀ r, r < 6 → a4 r = 0) (H : ∀ u : St2, u.1 = 0 → post u) :
    wpX_squeeze post (nI (f + 1), w, br, a1, a2, a3, a4, a5, a6, a7, a8) := by
  unfold wpX_squeeze
  exact bh_markg h4 (fun b5 h5 => bh_list hf h1 (bh_sq10g hf h1 h2 h5 H))
end
section
variable {w br : Int32} {f : Nat} {a1 a2 a3 a4 a5 a6 a7 a8 : Nat → Int32} {post : Int32 → St2 → Prop}
theorem bh_coll (hf : f ≤ 6) (h1 : a1 0 = nI f) (h2 : ∀ j, a2 j = 0) (h3 : a3 2 = 0) (h4 : a4 2 = 1) (h4' : ∀ r, r < 6 → r ≠ 2 → a4 r = 0) (H : ∀ u : St2, post (nI (f + 1)) u) :
    wpX_collect post (nI (f + 1), w, br, a1, a2, a3, a4, a5, a6, a7, a8) := by
  unfold wpX_collect
  refine bh_squeeze hf h1 h2 h3 h4 h4' ?_
  rintro ⟨t', w', br', b1, b2, b3, b4, b5, b6, b7, b8⟩ e
  have e : t' = nI (f + 1) := e
  subst e
  exact H _
theorem bh_collg (hf : f ≤ 6) (h1 : a1 0 = nI f) (h2 : ∀ j, a2 j = 0) (h4 : ∀ r, r < 6 → a4 r = 0) (H : ∀ u : St2, post 0 u) :
    wpX_collect post (nI (f + 1), w, br, a1, a2, a3, a4, a5, a6, a7, a8) := by
  unfold wpX_collect
  refine bh_squeezeg hf h1 h2 h4 ?_
  rintro ⟨t', w', br', b1, b2, b3, b4, b5, b6, b7, b8⟩ e
  have e : t' = 0 := e
  subst e
  exact H _
end
end
section
section
variable {post : Int32 → St0 → Prop} {mc ms kc ks : Nat} {x1 x2 x3 x4 x6 x7 x8 x9 z0 z1 : Int32} {t w br : Int32} {f : Nat} {a1 a2 a3 a4 a5 a6 a7 a8 : Nat → Int32}
/-! ===== the law's end: fields, collect ===== -/
theorem bh_endl (hf : f ≤ 6) (h1 : a1 0 = nI f) (h2 : ∀ j, a2 j = 0) (h3 : a3 2 = 0) (h4 : a4 2 = 1) (h4' : ∀ r, r < 6 → r ≠ 2 → a4 r = 0) (hp : post 1 ()) : wL_lawOf_247 post mc ms (nI f) 0 kc ks (nI (f + 1)) w br a1 a2 a3 a4 a5 a6 a7 a8 := by
  unfold wL_lawOf_247
  refine bh_fields_t h1 h3 h4 (br_t rfl ?_)
  unfold wL_lawOf_266
  refine br_t rfl (bh_coll hf h1 h2 h3 h4 h4' ?_)
  rintro ⟨t', w', br', b1, b2, b3, b4, b5, b6, b7, b8⟩
  exact br_t rfl (br_t (nI_succ f) hp)
theorem bh_endg (hf : f ≤ 6) (h1 : a1 0 = nI f) (h2 : ∀ j, a2 j = 0) (h4 : ∀ r, r < 6 → a4 r = 0) (hp : post 1 ()) : wL_lawOf_247 post mc ms (nI f) 1 kc ks (nI (f + 1)) w br a1 a2 a3 a4 a5 a6 a7 a8 := by
  unfold wL_lawOf_247
  refine bh_fields_f (h4 2 (by omega)) (br_f bh_i1 ?_)
  unfold wL_lawOf_266
  refine br_t rfl (bh_collg hf h1 h2 h4 ?_)
  rintro ⟨t', w', br', b1, b2, b3, b4, b5, b6, b7, b8⟩
  exact br_f bh_i1 (br_t rfl hp)
theorem bh_221l (hf : f ≤ 6) (h1 : a1 0 = nI f) (h2 : ∀ j, a2 j = 0) (h3 : a3 2 = 0) (h4 : a4 2 = 1) (h4' : ∀ r, r < 6 → r ≠ 2 → a4 r = 0) (hp : post 1 ()) (hz : z1 = z0) (h : x9 = 0 ∨ x8 = 0 ∨ ¬ x4 = 2) : wL_lawOf_221 post mc ms x4 (nI f) x8 x9 z0 z1 kc ks (nI (f + 1)) w br a1 a2 a3 a4 a5 a6 a7 a8 := by
  have E : wL_lawOf_247 post mc ms (nI f) 0 kc ks (nI (f + 1)) w br a1 a2 a3 a4 a5 a6 a7 a8 := bh_endl hf h1 h2 h3 h4 h4' hp
  unfold wL_lawOf_221
  exact br_t hz (br_c (fun _ => E) (fun z9 => br_c (fun _ => E) (fun z8 => br_f ((h.resolve_left z9).resolve_left z8) E)))
theorem bh_221g (hf : f ≤ 6) (h1 : a1 0 = nI f) (h2 : ∀ j, a2 j = 0) (h4 : ∀ r, r < 6 → a4 r = 0) (hp : post 1 ()) (hz : z1 = z0) : wL_lawOf_221 post mc ms 2 (nI f) 1 1 z0 z1 kc ks (nI (f + 1)) w br a1 a2 a3 a4 a5 a6 a7 a8 := by
  unfold wL_lawOf_221
  exact br_t hz (br_f bh_i1 (br_f bh_i1 (br_t rfl (bh_endg hf h1 h2 h4 hp))))
/-! ===== value ===== -/
theorem bh_182n (hf : f ≤ 6) (h1 : a1 0 = nI f) (h2 : ∀ j, a2 j = 0) (h3 : a3 2 = 0) (h4 : a4 2 = 1) (h4' : ∀ r, r < 6 → r ≠ 2 → a4 r = 0) (hp : post 1 ()) (hy : x4 < 0 ∨ 5 < x4) : wL_lawOf_182 post mc ms x1 x4 (nI f) x8 0 z0 kc ks (nI (f + 1)) w br a1 a2 a3 a4 a5 a6 a7 a8 := by
  unfold wL_lawOf_182
  exact bh_value_n hy (br_t rfl (bh_221l hf h1 h2 h3 h4 h4' hp rfl (Or.inl rfl)))
theorem bh_182f {q : Nat} (hq : q < 6) (hf : f ≤ 6) (h1 : a1 0 = nI f) (h2 : ∀ j, a2 j = 0) (h3 : a3 2 = 0) (h4 : a4 2 = 1) (h4' : ∀ r, r < 6 → r ≠ 2 → a4 r = 0) (h34 : a3 4 = x1) (h3' : ∀ r, r < 6 → r ≠ 4 → a3 r = 0) (hp : post 1 ()) : wL_lawOf_182 post mc ms x1 (nI q) (nI f) 0 1 z0 kc ks (nI (f + 1)) w br a1 a2 a3 a4 a5 a6 a7 a8 := by
  unfold wL_lawOf_182
  refine bh_value hq (fun _ => br_f bh_i1 (br_t rfl (pk_eq q 4 (fun e => ?_) (fun e => ?_)))) (fun z4 => br_f bh_i1 (br_t rfl (br_f ?_ ?_)))
  · subst e
    exact bh_221l hf h1 h2 h3 h4 h4' hp h34 (Or.inr (Or.inl rfl))
  · exact bh_221l hf h1 h2 h3 h4 h4' hp (h3' q hq e) (Or.inr (Or.inl rfl))
  · have e : q = 2 := by
      by_cases e : q = 2
      · exact e
      · exact absurd (h4' q hq e) z4
    subst e
    decide
  · exact bh_221l hf h1 h2 h3 h4 h4' hp rfl (Or.inr (Or.inl rfl))
theorem bh_182t {q : Nat} (hq : q < 6) (hf : f ≤ 6) (h1 : a1 0 = nI f) (h2 : ∀ j, a2 j = 0) (e3 : a3 q = z0) (e4 : a4 q = 0) (hg : q = 2 → ∀ r, r < 6 → a4 r = 0) (hl : q ≠ 2 → a3 2 = 0 ∧ a4 2 = 1 ∧ ∀ r, r < 6 → r ≠ 2 → a4 r = 0) (hp : post 1 ()) : wL_lawOf_182 post mc ms x1 (nI q) (nI f) 1 1 z0 kc ks (nI (f + 1)) w br a1 a2 a3 a4 a5 a6 a7 a8 := by
  unfold wL_lawOf_182
  refine bh_value hq (fun _ => br_f bh_i1 (br_f bh_i1 ?_)) (fun z4 => absurd e4 z4)
  by_cases e : q = 2
  · have hg' := hg e
    subst e
    exact bh_221g hf h1 h2 hg' hp e3
  · obtain ⟨h3, h4, h4'⟩ := hl e
    refine bh_221l hf h1 h2 h3 h4 h4' hp e3 (Or.inr (Or.inr ?_))
    intro z
    exact e ((nI_eq (a := q) (b := 2) (by omega) (by omega)).mp z)
theorem bh_162 (hz : z1 = z0) (H : ∀ z : Int32, (x7 = 0 → z = 0) → (¬ x7 = 0 → x2 = x3 → z = x1) → (¬ x2 = x3 → z = 0) → wL_lawOf_182 post mc ms x1 x4 x6 x8 x9 z kc ks t w br a1 a2 a3 a4 a5 a6 a7 a8) :
    wL_lawOf_162 post mc ms x1 x2 x3 x4 x6 x7 x8 x9 z0 z1 kc ks t w br a1 a2 a3 a4 a5 a6 a7 a8 := by
  unfold wL_lawOf_162
  exact br_t hz (br_c (fun e => H 0 (fun _ => rfl) (fun h => absurd e h) (fun _ => rfl)) (fun e => br_c (fun e2 => H x1 (fun h => absurd h e) (fun _ _ => rfl) (fun h => absurd e2 h)) (fun e2 => H 0 (fun _ => rfl) (fun _ h => absurd h e2) (fun _ => rfl))))
/-! ===== load ===== -/
theorem bh_131n (hf : f ≤ 6) (h1 : a1 0 = nI f) (h2 : ∀ j, a2 j = 0) (h3 : a3 2 = 0) (h4 : a4 2 = 1) (h4' : ∀ r, r < 6 → r ≠ 2 → a4 r = 0) (hp : post 1 ()) (hy : x4 < 0 ∨ 5 < x4) : wL_lawOf_131 post mc ms x1 x2 x3 x4 (nI f) x7 x8 0 kc ks (nI (f + 1)) w br a1 a2 a3 a4 a5 a6 a7 a8 := by
  unfold wL_lawOf_131
  exact bh_load_n hy (br_t rfl (bh_162 rfl (fun z _ _ _ => bh_182n hf h1 h2 h3 h4 h4' hp hy)))
theorem bh_131f {q : Nat} (hq : q < 6) (hf : f ≤ 6) (h1 : a1 0 = nI f) (h2 : ∀ j, a2 j = 0) (h3 : a3 2 = 0) (h4 : a4 2 = 1) (h4' : ∀ r, r < 6 → r ≠ 2 → a4 r = 0) (h34 : a3 4 = x1) (h3' : ∀ r, r < 6 → r ≠ 4 → a3 r = 0) (hp : post 1 ()) (hx : x3 < 0 ∨ nI f ≤ x3) : wL_lawOf_131 post mc ms x1 x2 x3 (nI q) (nI f) x7 0 1 kc ks (nI (f + 1)) w br a1 a2 a3 a4 a5 a6 a7 a8 := by
  unfold wL_lawOf_131
  exact bh_load_f hq h1 h3 h4 hx (br_f bh_i1 (br_t rfl (bh_162 rfl (fun z _ _ _ => bh_182f hq hf h1 h2 h3 h4 h4' h34 h3' hp))))
theorem bh_131t {q k : Nat} (hq : q < 6) (hk : k < f) (hf : f ≤ 6) (h1 : a1 0 = nI f) (h2 : ∀ j, a2 j = 0) (h3 : a3 2 = 0) (h4 : a4 2 = 1) (h4' : ∀ r, r < 6 → r ≠ 2 → a4 r = 0) (hG : ∀ k, k < f → a1 (k + 1) = if x2 = nI k then x1 else 0) (hx7 : x7 = 0 → ∀ k, k < f → ¬ x2 = nI k) (hp : post 1 ()) : wL_lawOf_131 post mc ms x1 x2 (nI k) (nI q) (nI f) x7 1 1 kc ks (nI (f + 1)) w br a1 a2 a3 a4 a5 a6 a7 a8 := by
  unfold wL_lawOf_131
  refine bh_load_t hf hk hq h1 h2 h3 h4 (br_f bh_i1 (br_f bh_i1 (bh_162 rfl (fun z z7 zt zf => bh_182t hq hf h1 h2 ?_ pk_us ?_ ?_ hp))))
  · rw [pk_us, hG k hk]
    by_cases e : x2 = nI k
    · rw [if_pos e]
      exact (zt (fun h => hx7 h k hk e) e).symm
    · rw [if_neg e]
      exact (zf e).symm
  · intro e r hr
    subst e
    by_cases e : r = 2
    · rw [e, pk_us]
    · rw [pk_un e]
      exact h4' r hr e
  · intro e
    have e' : 2 ≠ q := fun z => e z.symm
    refine ⟨by rw [pk_un e']; exact h3, by rw [pk_un e']; exact h4, fun r hr hr2 => ?_⟩
    by_cases e : r = q
    · rw [e, pk_us]
    · rw [pk_un e]
      exact h4' r hr hr2
theorem bh_131 {q : Nat} (hq : q < 6) (hf : f ≤ 6) (h1 : a1 0 = nI f) (h2 : ∀ j, a2 j = 0) (h3 : a3 2 = 0) (h4 : a4 2 = 1) (h4' : ∀ r, r < 6 → r ≠ 2 → a4 r = 0) (h34 : a3 4 = x1) (h3' : ∀ r, r < 6 → r ≠ 4 → a3 r = 0) (hG : ∀ k, k < f → a1 (k + 1) = if x2 = nI k then x1 else 0) (hx7 : x7 = 0 → ∀ k, k < f → ¬ x2 = nI k) (hx8 : (x8 = 0 ∧ (x3 < 0 ∨ nI f ≤ x3)) ∨ (x8 = 1 ∧ ∃ k, k < f ∧ x3 = nI k)) (hp : post 1 ()) : wL_lawOf_131 post mc ms x1 x2 x3 (nI q) (nI f) x7 x8 1 kc ks (nI (f + 1)) w br a1 a2 a3 a4 a5 a6 a7 a8 := by
  rcases hx8 with ⟨rfl, hx⟩ | ⟨rfl, k, hk, rfl⟩
  · exact bh_131f hq hf h1 h2 h3 h4 h4' h34 h3' hp hx
  · exact bh_131t hq hk hf h1 h2 h3 h4 h4' hG hx7 hp
/-! ===== the two stores ===== -/
theorem bh_97 (hz : z1 = z0) (hf : f ≤ 6) (h1 : a1 0 = nI f) (h2 : ∀ j, a2 j = 0) (h3 : a3 2 = 0) (h4 : a4 2 = 1) (h4' : ∀ r, r < 6 → r ≠ 2 → a4 r = 0) (h34 : a3 4 = x1) (h3' : ∀ r, r < 6 → r ≠ 4 → a3 r = 0) (hG : ∀ k, k < f → a1 (k + 1) = if x2 = nI k then x1 else 0) (hx7 : x7 = 0 → ∀ k, k < f → ¬ x2 = nI k) (hx8 : (x8 = 0 ∧ (x3 < 0 ∨ nI f ≤ x3)) ∨ (x8 = 1 ∧ ∃ k, k < f ∧ x3 = nI k)) (hp : post 1 ()) : wL_lawOf_97 post mc ms x1 x2 x3 x4 (nI f) x7 x8 z0 z1 kc ks (nI (f + 1)) w br a1 a2 a3 a4 a5 a6 a7 a8 := by
  unfold wL_lawOf_97
  refine br_t hz (bh_store_4 (h4' 4 (by omega) (by omega)) (br_t rfl (br_c (fun z => bh_131n hf h1 h2 h3 h4 h4' hp (Or.inl z)) (fun z => br_c (fun z' => bh_131n hf h1 h2 h3 h4 h4' hp (Or.inr z')) (fun z' => ?_)))))
  obtain ⟨q, hq, rfl⟩ := nI_of2 (M := 5) (n := 5) (by decide) z (Int32.not_lt.mp z')
  exact bh_131 (by omega) hf h1 h2 h3 h4 h4' h34 h3' hG hx7 hx8 hp
theorem bh_76 (hf : f ≤ 6) (h1 : a1 0 = nI f) (h2 : ∀ j, a2 j = 0) (h3 : a3 2 = 0) (h4 : a4 2 = 1) (h4' : ∀ r, r < 6 → r ≠ 2 → a4 r = 0) (h34 : a3 4 = x1) (h3' : ∀ r, r < 6 → r ≠ 4 → a3 r = 0) (hG0 : ∀ k, k < f → a1 (k + 1) = 0) (hx7 : (x7 = 0 ∧ (x2 < 0 ∨ nI f ≤ x2)) ∨ (x7 = 1 ∧ ∃ k, k < f ∧ x2 = nI k)) (hx8 : (x8 = 0 ∧ (x3 < 0 ∨ nI f ≤ x3)) ∨ (x8 = 1 ∧ ∃ k, k < f ∧ x3 = nI k)) (hp : post 1 ()) : wL_lawOf_76 post mc ms x1 x2 x3 x4 (nI f) x7 x8 kc ks (nI (f + 1)) w br a1 a2 a3 a4 a5 a6 a7 a8 := by
  unfold wL_lawOf_76
  rcases hx7 with ⟨rfl, hx⟩ | ⟨rfl, k, hk, rfl⟩
  · have hn : ∀ k, k < f → ¬ x2 = nI k := by
      rintro k hk rfl
      rcases hx with h | h
      · exact nI_pos (by omega) h
      · exact nI_ge hk (by omega) h
    exact bh_store_f h1 h3 h4 hx (br_t rfl (bh_97 rfl hf h1 h2 h3 h4 h4' h34 h3' (fun k hk => by rw [hG0 k hk, if_neg (hn k hk)]) (fun _ => hn) hx8 hp))
  · refine bh_store_t hf hk h1 h3 h34 h4 (h4' 4 (by omega) (by omega)) (br_f bh_i1 (bh_97 rfl hf ?_ (bh_upd0 h2) h3 h4 h4' h34 h3' ?_ (fun h => absurd h bh_i1) hx8 hp))
    · rw [pk_un (show 0 ≠ k + 1 by omega)]
      exact h1
    · intro j hj
      by_cases e : j = k
      · rw [e, pk_us, if_pos rfl]
      · rw [pk_un (show j + 1 ≠ k + 1 by omega), hG0 j hj, if_neg]
        intro z
        exact e ((nI_eq (by omega) (by omega)).mp z).symm
theorem bh_59 (hf : f ≤ 6) (h1 : a1 0 = nI f) (h2 : ∀ j, a2 j = 0) (h3 : a3 2 = 0) (h4 : a4 2 = 1) (h4' : ∀ r, r < 6 → r ≠ 2 → a4 r = 0) (h34 : a3 4 = x1) (h3' : ∀ r, r < 6 → r ≠ 4 → a3 r = 0) (hG0 : ∀ k, k < f → a1 (k + 1) = 0) (hx7 : (x7 = 0 ∧ (x2 < 0 ∨ nI f ≤ x2)) ∨ (x7 = 1 ∧ ∃ k, k < f ∧ x2 = nI k)) (hp : post 1 ()) : wL_lawOf_59 post mc ms x1 x2 x3 x4 (nI f) x7 kc ks (nI (f + 1)) w br a1 a2 a3 a4 a5 a6 a7 a8 := by
  unfold wL_lawOf_59
  refine br_c (fun z => bh_76 hf h1 h2 h3 h4 h4' h34 h3' hG0 hx7 (Or.inl ⟨rfl, Or.inl z⟩) hp) (fun z => br_c (fun z' => bh_76 hf h1 h2 h3 h4 h4' h34 h3' hG0 hx7 (Or.inl ⟨rfl, Or.inr z'⟩) hp) (fun z' => bh_76 hf h1 h2 h3 h4 h4' h34 h3' hG0 hx7 (Or.inr ⟨rfl, ?_⟩) hp))
  exact ((pk_ix x3 (n := f) (by omega)).resolve_left z).resolve_left z'
end
end
section
theorem bh_f (p : Int32) : ∃ f : Nat, 1 ≤ f ∧ f ≤ 6 ∧ (1 : Int32) + ((p &&& 255) - (p &&& 255) / 6 * 6) = nI f := by
  obtain ⟨j, hj, ej⟩ := pk_andE p (m := 255) 8 (by decide)
  refine ⟨j % 6 + 1, by omega, by omega, ?_⟩
  have h := pk_rem (a := j) (d := 6) (by omega) (by omega) (by omega)
  rw [ej, show (6 : Int32) = nI 6 from rfl, h, Int32.add_comm, nI_1]
theorem bh_lawOf {post : Int32 → St0 → Prop} {p0 p1 p2 p3 p4 : Int32} (hp : post 1 ()) : wpL_lawOf post 9 359 () p0 p1 p2 p3 p4 := by
  obtain ⟨f, f1, f6, ef⟩ := bh_f p0
  unfold wpL_lawOf
  refine ⟨by omega, by omega, 8, 348, by omega, by omega, ?_⟩
  unfold wpX_init
  refine ⟨by omega, by omega, by omega, by omega, by omega, by omega, by omega, by omega, by omega, by omega, by omega, by omega, by omega, by omega, by omega, by omega, ?_⟩
  refine ⟨by decide, nm_r ef (bh_make f6 f1 (fun _ => rfl) (fun b1 b2 h1 h1' h2 => br_t rfl (bh_number (br_t rfl ?_))))⟩
  have h3 : upd (upd (fun _ => 0) 2 0) 4 p1 2 = 0 := by rw [pk_un (by omega), pk_us]
  have h4 : upd (upd (fun _ => 0) 2 1) 4 0 2 = 1 := by rw [pk_un (by omega), pk_us]
  have h3' : ∀ r, r < 6 → r ≠ 4 → upd (upd (fun _ => 0) 2 0) 4 p1 r = 0 := by
    intro r _ hr
    rw [pk_un hr]
    exact bh_upd0 (fun _ => rfl) r
  have h4' : ∀ r, r < 6 → r ≠ 2 → upd (upd (fun _ => 0) 2 1) 4 0 r = 0 := by
    intro r _ hr
    by_cases e : r = 4
    · rw [e, pk_us]
    · rw [pk_un e, pk_un hr]
  have hG : ∀ k, k < f → b1 (k + 1) = 0 := fun k hk => h1' (k + 1) (by omega) (by omega)
  refine br_c (fun z => bh_59 f6 h1 h2 h3 h4 h4' pk_us h3' hG (Or.inl ⟨rfl, Or.inl z⟩) hp) (fun z => br_c (fun z' => bh_59 f6 h1 h2 h3 h4 h4' pk_us h3' hG (Or.inl ⟨rfl, Or.inr z'⟩) hp) (fun z' => bh_59 f6 h1 h2 h3 h4 h4' pk_us h3' hG (Or.inr ⟨rfl, ?_⟩) hp))
  exact ((pk_ix p2 (n := f) (by omega)).resolve_left z).resolve_left z'
theorem bh_cell {post : Int32 → Prop} {L : Nat} {xs : Nat → Int32} {x : Int32} (c : Nat) (hL : L ≤ 5) (hc : c < 5) (H : ∀ r, post r) (hx : x = nI c := by rfl) : wpL_cellAt post L xs () x := by
  subst hx
  exact pk_le L c (fun _ => H _) (fun z => ⟨pk_in c L z, H _⟩)
theorem i_vc (xs : Nat → Int32) (L : Nat) (hL : L ≤ 5) : wpL_law (fun r => r = 1) L xs := by
  unfold wpL_law
  exact bh_cell 0 hL (by omega) (fun r1 => bh_cell 1 hL (by omega) (fun r2 => bh_cell 2 hL (by omega) (fun r3 => bh_cell 3 hL (by omega) (fun r4 => bh_cell 4 hL (by omega) (fun r5 => ⟨9, 359, by omega, by omega, bh_lawOf rfl⟩)))))
end
