section
/-- every place of the order holds a cell's number -/
def wt_Or (g : Nat → Int32) : Prop := ∀ j, j < 16 → ∃ c, c < 16 ∧ g j = nI c
/-- sixteen zeros -/
def wt_Z (g : Nat → Int32) : Prop := ∀ j, j < 16 → g j = 0
abbrev wt_z : Nat → Int32 := fun _ => 0
/-- no cell's number -/
def wt_Off (x : Int32) : Prop := x < 0 ∨ (¬ x < 16 ∧ ¬ x ≤ 15)
theorem wt_ix (x : Int32) : wt_Off x ∨ ∃ j, j < 16 ∧ x = nI j := by
  by_cases h : x < 0
  · exact Or.inl (Or.inl h)
  · obtain ⟨j, hj, rfl⟩ := nI_of h
    by_cases h2 : j < 16
    · exact Or.inr ⟨j, h2, rfl⟩
    · exact Or.inl (Or.inr ⟨nI_nlt (b := 16) (by omega) hj, nI_ge (a := 15) (b := j) (by omega) hj⟩)
theorem wt_off_ne {x : Int32} {k : Nat} (h : wt_Off x) (hk : k < 16) : ¬ x = nI k := by
  intro e
  subst e
  rcases h with h | h
  · exact nI_pos (by omega) h
  · exact h.1 (nI_lt (b := 16) hk (by decide))
theorem wt_fill {s : Nat → Int32} {i k c : Nat} (hk : k = i) (hc : c < 16) (h : ∀ j, j < i → ∃ c, c < 16 ∧ s j = nI c) : ∀ j, j < i + 1 → ∃ d, d < 16 ∧ upd s k (nI c) j = nI d := by
  intro j hj
  subst hk
  by_cases e : j = k
  · subst e
    exact ⟨c, hc, pk_us⟩
  · rw [pk_un e]
    exact h j (by omega)
/-- a bit of one cell against a bit of another -/
theorem wt_bits : ∀ m : Fin 16, ∀ k : Fin 16, (((0 : Int32) ||| ((1 : Int32) <<< (nI m.val &&& 31))) &&& ((1 : Int32) <<< (nI k.val &&& 31)) = 0 ↔ m ≠ k) := by decide +kernel
theorem wt_bit0 {m k : Nat} (hm : m < 16) (hk : k < 16) (h : m ≠ k) : ((0 : Int32) ||| ((1 : Int32) <<< (nI m &&& 31))) &&& ((1 : Int32) <<< (nI k &&& 31)) = 0 :=
  (wt_bits ⟨m, hm⟩ ⟨k, hk⟩).mpr (fun e => h (congrArg Fin.val e))
theorem wt_bit1 {k : Nat} (hk : k < 16) : ¬ ((0 : Int32) ||| ((1 : Int32) <<< (nI k &&& 31))) &&& ((1 : Int32) <<< (nI k &&& 31)) = 0 :=
  fun e => (wt_bits ⟨k, hk⟩ ⟨k, hk⟩).mp e rfl
theorem wt_i8 (k : Nat) : nI k * 8 + 0 = nI (k * 8) := by
  show nI k * nI 8 + nI 0 = nI (k * 8)
  rw [pk_mul, nI_add]
  rfl
theorem wt_i8c {k : Nat} (hk : k < 16) : (nI k * 8 + 0).toNatClampNeg = k * 8 := by
  rw [wt_i8, nI_clamp (by omega)]
theorem wt_i8in {k : Nat} (hk : k < 16) : vp_in (nI k * 8 + 0) 128 := by
  rw [wt_i8]
  exact vp_in_nI (by omega) (by decide)
section
variable {t f1 f2 : Int32} {a1 a2 a3 a4 a5 a6 a7 a8 a9 a10 a11 a12 a13 : Nat → Int32}
theorem wt_init {post : St2 → Prop} (H : ∀ g, wt_Or g → post (0, 0, 0, wt_z, wt_z, wt_z, wt_z, wt_z, g, wt_z, wt_z, wt_z, wt_z, wt_z, wt_z, wt_z)) : wpX_init post 13 387 (0, 0, 0) := by
  unfold wpX_init
  dsimp only
  refine ⟨by decide, by decide, by decide, by decide, by decide, by decide, by decide, by decide, by decide, by decide, by decide, by decide, by decide, by decide, by decide, by decide, by decide, by decide, by decide, by decide, by decide, by decide, by decide, by decide, by decide, by decide, ?_⟩
  exact pk_loop (fun n i s => wX_init_111 post 13 387 13 387 0 0 0 n (nI i) wt_z wt_z wt_z wt_z wt_z s wt_z wt_z wt_z wt_z wt_z wt_z wt_z) (fun i s => ∀ j, j < i → ∃ c, c < 16 ∧ s j = nI c) 16 0 wt_z (by omega) (fun j hj => absurd hj (by omega))
    (fun n s h => pk_le 16 16 (fun _ => H s h) (fun q => absurd q (by omega)))
    (fun n i s hi h hw => pk_le 16 i (fun q => absurd q (by omega)) (fun _ => ⟨pk_in i 16 hi, nm_e (nm_r (nI_1 i) (hw _ (wt_fill (nI_clamp (by omega)) hi h)))⟩))
theorem wt_off_in {p : Int32 → Prop} {k : Nat} (hk : k < 16) (H : p 0) : wpX_off p () (nI k) :=
  pk_lt k 0 (fun q => absurd q (by omega)) (fun _ => pk_lt k 16 (fun _ => H) (fun q => absurd q (by omega)))
theorem wt_off_out {p : Int32 → Prop} {x : Int32} (hx : wt_Off x) (H : p 1) : wpX_off p () x :=
  br_c (fun _ => H) (fun h0 => br_c (fun h1 => absurd hx (fun h => h.elim h0 (fun h => h.1 h1))) (fun _ => H))
theorem wt_val_in {p : Int32 → Prop} {k : Nat} (hk : k < 16) (H : p (a5 k)) : wpX_value p (t, f1, f2, a1, a2, a3, a4, a5, a6, a7, a8, a9, a10, a11, a12, a13) (nI k) := by
  unfold wpX_value
  exact wt_off_in hk (br_t rfl ⟨pk_in k 16 hk, by rw [nI_clamp (by omega)]; exact H⟩)
theorem wt_val_out {p : Int32 → Prop} {x : Int32} (hx : wt_Off x) (H : p 0) : wpX_value p (t, f1, f2, a1, a2, a3, a4, a5, a6, a7, a8, a9, a10, a11, a12, a13) x := by
  unfold wpX_value
  exact wt_off_out hx (br_f (by decide) H)
theorem wt_isf_in {p : Int32 → Prop} {k : Nat} (hk : k < 16) (H0 : a1 k ≤ 0 → p 0) (H1 : ¬ a1 k ≤ 0 → p 1) : wpX_isFormula p (t, f1, f2, a1, a2, a3, a4, a5, a6, a7, a8, a9, a10, a11, a12, a13) (nI k) := by
  unfold wpX_isFormula
  exact wt_off_in hk (br_t rfl ⟨pk_in k 16 hk, by rw [nI_clamp (by omega)]; exact br_c H0 H1⟩)
theorem wt_isf_out {p : Int32 → Prop} {x : Int32} (hx : wt_Off x) (H : p 0) : wpX_isFormula p (t, f1, f2, a1, a2, a3, a4, a5, a6, a7, a8, a9, a10, a11, a12, a13) x := by
  unfold wpX_isFormula
  exact wt_off_out hx (br_f (by decide) H)
theorem wt_tok25 {post : Int32 → St2 → Prop} {x y : Int32} (H : post 1 (1, f1, f2, a1, a2, a3, a4, a5, a6, upd a7 0 x, upd a8 0 y, a9, a10, a11, a12, a13)) : wX_token_25 post x y 0 f1 f2 a1 a2 a3 a4 a5 a6 a7 a8 a9 a10 a11 a12 a13 :=
  br_t (by decide) ⟨pk_in 0 8 (by omega), nm_r (by rw [sb_cl0]) ⟨pk_in 0 8 (by omega), nm_r (by rw [sb_cl0]) (nm_r (by decide) H)⟩⟩
/-- a token that is refused -/
def wt_Bad (x y : Int32) : Prop := x < 0 ∨ 7 < x ∨ (x = 1 ∧ wt_Off y)
def wt_Good (x y : Int32) : Prop := ¬ x < 0 ∧ ¬ 7 < x ∧ (x = 1 → ∃ m, m < 16 ∧ y = nI m)
theorem wt_tok_bad {post : Int32 → St2 → Prop} {x y : Int32} (h : wt_Bad x y) (H : post (-2) (t, f1, f2, a1, a2, a3, a4, a5, a6, a7, a8, a9, a10, a11, a12, a13)) : wpX_token post (t, f1, f2, a1, a2, a3, a4, a5, a6, a7, a8, a9, a10, a11, a12, a13) x y :=
  br_c (fun _ => H) (fun h0 => br_c (fun _ => H) (fun h1 => br_c (fun h2 => wt_off_out (h.elim (fun z => absurd z h0) (fun z => z.elim (fun z => absurd z h1) (fun z => z.2))) (br_f (by decide) H)) (fun h2 => absurd h (fun h => h.elim h0 (fun z => z.elim h1 (fun z => h2 z.1))))))
theorem wt_tok_ok {post : Int32 → St2 → Prop} {x y : Int32} (h : wt_Good x y) (H : post 1 (1, f1, f2, a1, a2, a3, a4, a5, a6, upd a7 0 x, upd a8 0 y, a9, a10, a11, a12, a13)) : wpX_token post (0, f1, f2, a1, a2, a3, a4, a5, a6, a7, a8, a9, a10, a11, a12, a13) x y := by
  refine br_f h.1 (br_f h.2.1 (br_c (fun h2 => ?_) (fun h2 => wt_tok25 H)))
  obtain ⟨m, hm, e⟩ := h.2.2 h2
  rw [e] at H ⊢
  exact wt_off_in hm (br_t rfl (wt_tok25 H))
theorem wt_sound0 {p : Int32 → Prop} (H : p 0) : wpX_sound p (0, f1, f2, a1, a2, a3, a4, a5, a6, a7, a8, a9, a10, a11, a12, a13) :=
  Exists.intro (0 + 1) (br_t (by decide) (br_f (by decide) H))
theorem wt_sound1 {p : Int32 → Prop} (H0 : 1 < a7 0 → p 0) (H1 : ¬ 1 < a7 0 → p 1) : wpX_sound p (1, f1, f2, a1, a2, a3, a4, a5, a6, a7, a8, a9, a10, a11, a12, a13) :=
  Exists.intro (0 + 1 + 1) (br_f (by decide) ⟨pk_in 0 8 (by omega), by
    rw [sb_cl0]
    exact br_c (fun h => br_c (fun _ => br_f (by decide) (H0 h)) (fun _ => br_f (by decide) (H0 h)))
      (fun h => br_t (by decide) (nm_r (e' := 1) (by decide) (nm_r (e' := 1) (by decide) (br_t (by decide) (br_t rfl (H1 h))))))⟩)
theorem wt_tn0 {p : Int32 → Prop} (H : p 0) : wpX_typedNames p (0, f1, f2, a1, a2, a3, a4, a5, a6, a7, a8, a9, a10, a11, a12, a13) :=
  Exists.intro (0 + 1) (br_t (by decide) H)
theorem wt_tn1 {p : Int32 → Prop} (H0 : ¬ a7 0 = 1 → p 0) (H1 : a7 0 = 1 → p (0 ||| ((1 : Int32) <<< (a8 0 &&& 31)))) : wpX_typedNames p (1, f1, f2, a1, a2, a3, a4, a5, a6, a7, a8, a9, a10, a11, a12, a13) :=
  Exists.intro (0 + 1 + 1) (br_f (by decide) ⟨pk_in 0 8 (by omega), by
    rw [sb_cl0]
    exact br_c (fun h => ⟨pk_in 0 8 (by omega), nm_e (nm_r (e' := 1) (by decide) (br_t (by decide) (H1 h)))⟩)
      (fun h => nm_r (e' := 1) (by decide) (br_t (by decide) (H0 h)))⟩)
theorem wt_above {p : Int32 → Prop} {x : Int32} (h4 : wt_Z a4) (ho : wt_Or a6) (H : p x) : wpX_above p (t, f1, f2, a1, a2, a3, a4, a5, a6, a7, a8, a9, a10, a11, a12, a13) x :=
  pk_loop (σ := Unit) (fun n i _ => wX_above_4 p t f1 f2 a1 a2 a3 a4 a5 a6 a7 a8 a9 a10 a11 a12 a13 n x (nI i)) (fun _ _ => True) 16 0 () (by omega) trivial
    (fun n _ _ => pk_le 16 16 (fun _ => H) (fun q => absurd q (by omega)))
    (fun n i _ hi _ hw => pk_le 16 i (fun q => absurd q (by omega)) (fun _ => ⟨pk_in i 16 hi, by
      obtain ⟨c, hc, e⟩ := ho i hi
      rw [nI_clamp (by omega), e]
      exact nm_e ⟨pk_in c 16 hc, br_t (by rw [nI_clamp (by omega), h4 c hc]; exact Int32.zero_and) (nm_r (nI_1 i) (hw () trivial))⟩⟩))
theorem wt_spread {post : Int32 → St2 → Prop} {x y : Int32} (h4 : wt_Z a4) (ho : wt_Or a6) (H : post 0 (t, f1, f2, a1, a2, a3, a4, a5, a6, a7, a8, a9, a10, a11, a12, a13)) : wpX_spread post (t, f1, f2, a1, a2, a3, a4, a5, a6, a7, a8, a9, a10, a11, a12, a13) x y :=
  pk_loop (σ := Unit) (fun n i _ => wX_spread_8 post y n x 0 (nI i) t f1 f2 a1 a2 a3 a4 a5 a6 a7 a8 a9 a10 a11 a12 a13) (fun _ _ => True) 16 0 () (by omega) trivial
    (fun n _ _ => pk_le 16 16 (fun _ => H) (fun q => absurd q (by omega)))
    (fun n i _ hi _ hw => pk_le 16 i (fun q => absurd q (by omega)) (fun _ => ⟨pk_in i 16 hi, by
      obtain ⟨c, hc, e⟩ := ho i hi
      rw [nI_clamp (by omega), e]
      exact nm_e (br_c (fun _ => ⟨pk_in c 16 hc, br_t (by rw [nI_clamp (by omega), h4 c hc]; exact Int32.zero_and) (nm_r (nI_1 i) (hw () trivial))⟩) (fun _ => nm_r (nI_1 i) (hw () trivial)))⟩))
theorem wt_ready {p : Int32 → Prop} {c : Nat} {x : Int32} (hc : c < 16) (H0 : p 0) (H1 : p 1) : wpX_readyToPlace p (t, f1, f2, a1, a2, a3, a4, a5, a6, a7, a8, a9, a10, a11, a12, a13) (nI c) x :=
  br_c (fun _ => ⟨pk_in c 16 hc, br_c (fun _ => H1) (fun _ => H0)⟩) (fun _ => H0)
theorem wt_sort33 {post : St2 → Prop} {J : Int32 → Int32 → (Nat → Int32) → (Nat → Int32) → (Nat → Int32) → (Nat → Int32) → (Nat → Int32) → (Nat → Int32) → (Nat → Int32) → (Nat → Int32) → (Nat → Int32) → (Nat → Int32) → (Nat → Int32) → (Nat → Int32) → (Nat → Int32) → Prop} {x : Int32} {i c : Nat} (hi : i < 16) (hc : c < 16)
    (H : ∀ x c, c < 16 → J x (nI (i + 1)) a1 a2 a3 a4 a5 (upd a6 i (nI c)) a7 a8 a9 a10 a11 a12 a13) : wX_sortCells_33 post J x (nI i) (nI c) t f1 f2 a1 a2 a3 a4 a5 a6 a7 a8 a9 a10 a11 a12 a13 :=
  And.intro (pk_in i 16 hi) (nm_r (by rw [nI_clamp (by omega)]) (nm_e (nm_r (nI_1 i) (H _ c hc))))
theorem wt_sort12 {post : St2 → Prop} {J : Int32 → Int32 → (Nat → Int32) → (Nat → Int32) → (Nat → Int32) → (Nat → Int32) → (Nat → Int32) → (Nat → Int32) → (Nat → Int32) → (Nat → Int32) → (Nat → Int32) → (Nat → Int32) → (Nat → Int32) → (Nat → Int32) → (Nat → Int32) → Prop} {x : Int32} {i : Nat} (hi : i < 16)
    (H : ∀ x c, c < 16 → J x (nI (i + 1)) a1 a2 a3 a4 a5 (upd a6 i (nI c)) a7 a8 a9 a10 a11 a12 a13) : ∃ fu, wX_sortCells_12 post J x (nI i) t f1 f2 a1 a2 a3 a4 a5 a6 a7 a8 a9 a10 a11 a12 a13 fu 0 :=
  pk_loop (σ := Unit) (fun n c _ => wX_sortCells_12 post J x (nI i) t f1 f2 a1 a2 a3 a4 a5 a6 a7 a8 a9 a10 a11 a12 a13 n (nI c)) (fun _ _ => True) 15 0 () (by omega) trivial
    (fun n _ _ => pk_le 15 15 (fun _ => wt_sort33 hi (by omega) H) (fun q => absurd q (by omega)))
    (fun n c _ hc _ hw => pk_le 15 c (fun q => absurd q (by omega)) (fun _ => wt_ready (by omega) (br_t rfl (nm_r (nI_1 c) (hw () trivial))) (br_f (by decide) (wt_sort33 hi (by omega) H))))
theorem wt_sort {post : St2 → Prop} (H : ∀ g, wt_Or g → post (t, f1, f2, a1, a2, a3, a4, a5, g, a7, a8, a9, a10, a11, a12, a13)) : wpX_sortCells post (t, f1, f2, a1, a2, a3, a4, a5, a6, a7, a8, a9, a10, a11, a12, a13) :=
  pk_loop (σ := Int32 × (Nat → Int32)) (fun n i s => wX_sortCells_4 post t f1 f2 n s.1 (nI i) a1 a2 a3 a4 a5 s.2 a7 a8 a9 a10 a11 a12 a13) (fun i s => ∀ j, j < i → ∃ c, c < 16 ∧ s.2 j = nI c) 16 0 (0, a6) (by omega) (fun j hj => absurd hj (by omega))
    (fun n s h => pk_le 16 16 (fun _ => H s.2 h) (fun q => absurd q (by omega)))
    (fun n i s hi h hw => pk_le 16 i (fun q => absurd q (by omega)) (fun _ => wt_sort12 hi (fun x c hc => hw (x, upd s.2 i (nI c)) (wt_fill rfl hc h))))
theorem wt_work {post : Int32 → St2 → Prop} {k : Nat} {v : Int32} (hk : k < 16) (h1 : a1 k = 1) (h2 : (a2 (k * 8) = 0 ∧ a3 (k * 8) = v) ∨ (a2 (k * 8) = 1 ∧ ∃ m, m < 16 ∧ a3 (k * 8) = nI m ∧ a5 m = v))
    (H : ∀ b, post v (t, f1, f2, a1, a2, a3, a4, a5, a6, a7, a8, a9, a10, a11, a12, b)) : wpX_work post (t, f1, f2, a1, a2, a3, a4, a5, a6, a7, a8, a9, a10, a11, a12, a13) (nI k) := by
  have E : ∀ b : Nat → Int32, b 0 = v → wX_work_4 post (nI k) (0 + 1) 1 1 t f1 f2 a1 a2 a3 a4 a5 a6 a7 a8 a9 a10 a11 a12 b := fun b hb =>
    And.intro (pk_in k 16 hk) (by
      rw [nI_clamp (by omega), h1, hb]
      exact br_t (by decide) (H b))
  refine Exists.intro (0 + 1 + 1) (And.intro (pk_in k 16 hk) ?_)
  rw [nI_clamp (by omega), h1, wt_i8c hk]
  refine br_f (by decide) ⟨wt_i8in hk, nm_e ⟨wt_i8in hk, nm_e ?_⟩⟩
  rcases h2 with ⟨e2, e3⟩ | ⟨e2, m, hm, e3, e5⟩
  · rw [e2, e3]
    exact br_t rfl ⟨pk_in 0 9 (by omega), nm_r (e' := upd a13 0 v) (by rw [sb_cl0]) (nm_r (e' := 1) (by decide) (nm_r (e' := 1) (by decide) (E _ pk_us)))⟩
  · rw [e2, e3]
    exact br_f (by decide) (br_t rfl ⟨pk_in m 16 hm, pk_in 0 9 (by omega), nm_r (e' := upd a13 0 v) (by rw [sb_cl0, nI_clamp (by omega), e5]) (nm_r (e' := 1) (by decide) (nm_r (e' := 1) (by decide) (E _ pk_us)))⟩)
end
end
section
section
variable {t f1 f2 : Int32} {a1 a2 a3 a4 a5 a6 a7 a8 a9 a10 a11 a12 a13 : Nat → Int32}
theorem wt_num_out {post : Int32 → St2 → Prop} {x v : Int32} (hx : wt_Off x) (H : post (-1) (t, f1, f2, a1, a2, a3, a4, a5, a6, a7, a8, a9, a10, a11, a12, a13)) : wpX_number post (t, f1, f2, a1, a2, a3, a4, a5, a6, a7, a8, a9, a10, a11, a12, a13) x v := by
  unfold wpX_number
  exact wt_off_out hx (br_f (by decide) H)
theorem wt_zero {g : Nat → Int32} {k : Nat} (h : ∀ j, j < 16 → j ≠ k → g j = 0) : wt_Z (upd g k 0) := by
  intro j hj
  by_cases e : j = k
  · rw [e, pk_us]
  · rw [pk_un e]
    exact h j hj e
theorem wt_num_in {post : Int32 → St2 → Prop} {k : Nat} {v : Int32} (hk : k < 16) (h4 : ∀ j, j < 16 → j ≠ k → a4 j = 0) (ho : wt_Or a6)
    (H0 : a5 k = v → post 0 (t, f1, f2, upd a1 k 0, a2, a3, upd a4 k 0, a5, a6, a7, a8, a9, a10, a11, a12, a13)) (H1 : ¬ a5 k = v → post 1 (t, f1, f2, upd a1 k 0, a2, a3, upd a4 k 0, upd a5 k v, a6, a7, a8, a9, a10, a11, a12, a13)) : wpX_number post (t, f1, f2, a1, a2, a3, a4, a5, a6, a7, a8, a9, a10, a11, a12, a13) (nI k) v := by
  unfold wpX_number
  have hc : (nI k).toNatClampNeg = k := nI_clamp (by omega)
  refine wt_off_in hk (br_t rfl ⟨pk_in k 16 hk, nm_r (e' := upd a1 k 0) (by rw [hc]) ⟨pk_in k 16 hk, nm_r (e' := upd a4 k 0) (by rw [hc]) ⟨pk_in k 16 hk, ?_⟩⟩⟩)
  rw [hc]
  refine br_c H0 (fun h => ⟨pk_in k 16 hk, nm_e ?_⟩)
  exact wt_spread (wt_zero h4) ho (H1 h)
theorem wt_form_out {post : Int32 → St2 → Prop} {x : Int32} (hx : wt_Off x) (H : post (-1) (t, f1, f2, a1, a2, a3, a4, a5, a6, a7, a8, a9, a10, a11, a12, a13)) : wpX_formula post (t, f1, f2, a1, a2, a3, a4, a5, a6, a7, a8, a9, a10, a11, a12, a13) x := by
  unfold wpX_formula
  exact wt_off_out hx (br_f (by decide) H)
theorem wt_form_0 {post : Int32 → St2 → Prop} {k : Nat} (hk : k < 16) (h4 : wt_Z a4) (ho : wt_Or a6) (H : post (-4) (0, f1, f2, a1, a2, a3, a4, a5, a6, a7, a8, a9, a10, a11, a12, a13)) : wpX_formula post (0, f1, f2, a1, a2, a3, a4, a5, a6, a7, a8, a9, a10, a11, a12, a13) (nI k) := by
  unfold wpX_formula
  exact wt_off_in hk (br_t rfl (wt_sound0 (wt_tn0 (wt_above h4 ho (br_t rfl H)))))
theorem wt_form_u {post : Int32 → St2 → Prop} {k : Nat} (hk : k < 16) (h4 : wt_Z a4) (ho : wt_Or a6) (h7 : 1 < a7 0) (H : post (-4) (0, f1, f2, a1, a2, a3, a4, a5, a6, a7, a8, a9, a10, a11, a12, a13)) : wpX_formula post (1, f1, f2, a1, a2, a3, a4, a5, a6, a7, a8, a9, a10, a11, a12, a13) (nI k) := by
  unfold wpX_formula
  exact wt_off_in hk (br_t rfl (wt_sound1 (fun _ => wt_tn1 (fun _ => wt_above h4 ho (br_t rfl H)) (fun _ => wt_above h4 ho (br_t rfl H))) (fun z => absurd h7 z)))
theorem wt_form_c {post : Int32 → St2 → Prop} {k : Nat} (hk : k < 16) (h4 : wt_Z a4) (ho : wt_Or a6) (h7 : a7 0 = 1) (h8 : a8 0 = nI k) (H : post (-5) (0, f1, f2, a1, a2, a3, a4, a5, a6, a7, a8, a9, a10, a11, a12, a13)) : wpX_formula post (1, f1, f2, a1, a2, a3, a4, a5, a6, a7, a8, a9, a10, a11, a12, a13) (nI k) := by
  unfold wpX_formula
  exact wt_off_in hk (br_t rfl (wt_sound1 (fun z => absurd z (by rw [h7]; decide)) (fun _ => wt_tn1 (fun z => absurd h7 z) (fun _ => wt_above h4 ho (br_f (by decide) (br_f (by rw [h8]; exact wt_bit1 hk) H))))))
/-- the rest of a formula that is taken: s its names, v its value -/
theorem wt_67 {post : Int32 → St2 → Prop} {k : Nat} {s v : Int32} (hk : k < 16) (h1 : a1 k = 1) (h4 : wt_Z a4) (h5 : wt_Z a5)
    (h7 : (a7 0 = 0 ∧ a8 0 = v ∧ s = 0) ∨ (a7 0 = 1 ∧ v = 0 ∧ ∃ m, m < 16 ∧ a8 0 = nI m))
    (H : ∀ c2 c3 w g b, w k = v → (∀ j, j < 16 → j ≠ k → w j = 0) → wt_Or g → post 0 (t, f1, f2, a1, c2, c3, upd a4 k s, w, g, a7, a8, a9, a10, a11, a12, b)) :
    ∃ fu, wX_formula_67 post (nI k) s 1 t f1 f2 fu 0 a1 a2 a3 a4 a5 a6 a7 a8 a9 a10 a11 a12 a13 := by
  have hc : (nI k).toNatClampNeg = k := nI_clamp (by omega)
  refine Exists.intro (0 + 1 + 1) (br_f (by decide) ⟨pk_in 0 8 (by omega), wt_i8in hk, ?_⟩)
  rw [wt_i8c hk, sb_cl0]
  refine nm_e ⟨pk_in 0 8 (by omega), wt_i8in hk, nm_e (nm_r (e' := 1) (by decide) (br_t (by decide) ⟨pk_in k 16 hk, ?_⟩))⟩
  rw [hc]
  refine nm_e (wt_sort (fun g hg => wt_work (v := v) hk h1 ?_ (fun b => ?_)))
  · rw [pk_us, pk_us]
    rcases h7 with ⟨e7, e8, _⟩ | ⟨e7, e, m, hm, e8⟩
    · exact Or.inl ⟨e7, e8⟩
    · exact Or.inr ⟨e7, m, hm, e8, by rw [h5 m hm, e]⟩
  · refine And.intro (pk_in k 16 hk) ?_
    refine br_c (fun e => H _ _ a5 g b e.symm (fun j hj _ => h5 j hj) hg) (fun e => ⟨pk_in k 16 hk, nm_e ?_⟩)
    refine wt_spread ?_ hg (H _ _ (upd a5 k v) g b pk_us (fun j hj hn => by rw [pk_un hn]; exact h5 j hj) hg)
    rcases h7 with ⟨_, _, e⟩ | ⟨_, e', _⟩
    · rw [e]
      exact wt_zero (fun j hj _ => h4 j hj)
    · exact absurd (e'.trans (h5 k hk).symm) e
theorem wt_form_n {post : Int32 → St2 → Prop} {k : Nat} (hk : k < 16) (h4 : wt_Z a4) (h5 : wt_Z a5) (ho : wt_Or a6) (h7 : a7 0 = 0)
    (H : ∀ c2 c3 w g b, w k = a8 0 → (∀ j, j < 16 → j ≠ k → w j = 0) → wt_Or g → post 0 (0, f1, f2, upd a1 k 1, c2, c3, upd a4 k 0, w, g, a7, a8, a9, a10, a11, a12, b)) : wpX_formula post (1, f1, f2, a1, a2, a3, a4, a5, a6, a7, a8, a9, a10, a11, a12, a13) (nI k) := by
  unfold wpX_formula
  refine wt_off_in hk (br_t rfl (wt_sound1 (fun z => absurd z (by rw [h7]; decide)) (fun _ => wt_tn1 (fun _ => wt_above h4 ho (br_f (by decide) (br_t Int32.zero_and ⟨pk_in k 16 hk, ?_⟩))) (fun z => absurd z (by rw [h7]; decide)))))
  exact nm_r (e' := upd a1 k 1) (by rw [nI_clamp (by omega)]) (wt_67 hk pk_us h4 h5 (Or.inl ⟨h7, rfl, rfl⟩) H)
theorem wt_form_m {post : Int32 → St2 → Prop} {k m : Nat} (hk : k < 16) (hm : m < 16) (hn : m ≠ k) (h4 : wt_Z a4) (h5 : wt_Z a5) (ho : wt_Or a6) (h7 : a7 0 = 1) (h8 : a8 0 = nI m)
    (H : ∀ s c2 c3 w g b, w k = 0 → (∀ j, j < 16 → j ≠ k → w j = 0) → wt_Or g → post 0 (0, f1, f2, upd a1 k 1, c2, c3, upd a4 k s, w, g, a7, a8, a9, a10, a11, a12, b)) : wpX_formula post (1, f1, f2, a1, a2, a3, a4, a5, a6, a7, a8, a9, a10, a11, a12, a13) (nI k) := by
  unfold wpX_formula
  refine wt_off_in hk (br_t rfl (wt_sound1 (fun z => absurd z (by rw [h7]; decide)) (fun _ => wt_tn1 (fun z => absurd h7 z) (fun _ => wt_above h4 ho (br_f (by decide) (br_t (by rw [h8]; exact wt_bit0 hm hk hn) ⟨pk_in k 16 hk, ?_⟩))))))
  exact nm_r (e' := upd a1 k 1) (by rw [nI_clamp (by omega)]) (wt_67 hk pk_us h4 h5 (Or.inr ⟨h7, rfl, m, hm, h8⟩) (H _))
end
end
section
section
variable {t f1 f2 : Int32} {a1 a2 a3 a4 a5 a6 a7 a8 a9 a10 a11 a12 a13 : Nat → Int32}
variable {P : Int32 → St0 → Prop} {mc ms kc ks : Nat} {x0 x1 x2 x3 x4 x6 x7 x8 : Int32}
/-- before number: the cell is k and holds w, all else is 0; or there is no such cell -/
def wt_K (x2 x7 w : Int32) (a4 a5 a6 : Nat → Int32) : Prop :=
  (x7 = 0 ∧ ∃ k, k < 16 ∧ x2 = nI k ∧ (∀ j, j < 16 → j ≠ k → a4 j = 0) ∧ a5 k = w ∧ (∀ j, j < 16 → j ≠ k → a5 j = 0) ∧ wt_Or a6) ∨ (x7 = 1 ∧ wt_Off x2 ∧ w = 0 ∧ wt_Z a5)
theorem wt_217i {k : Nat} {z : Int32} (hp : P 1 ()) (hk : k < 16) (h5 : a5 k = x3) (h5' : ∀ j, j < 16 → j ≠ k → a5 j = 0) : wL_lawOf_217 P mc ms (nI k) x3 x4 0 z z kc ks t f1 f2 a1 a2 a3 a4 a5 a6 a7 a8 a9 a10 a11 a12 a13 := by
  rcases wt_ix x4 with h | ⟨i, hi, rfl⟩
  · exact br_t rfl (wt_val_out h (br_t rfl (br_f (wt_off_ne h hk) (br_t rfl hp))))
  · exact br_t rfl (wt_val_in hi (br_t rfl (pk_eq i k (fun e => br_t (by rw [e, h5]) hp) (fun e => br_t (h5' i hi e) hp))))
theorem wt_217o {z : Int32} (hp : P 1 ()) (h5 : wt_Z a5) : wL_lawOf_217 P mc ms x2 x3 x4 1 z z kc ks t f1 f2 a1 a2 a3 a4 a5 a6 a7 a8 a9 a10 a11 a12 a13 := by
  rcases wt_ix x4 with h | ⟨i, hi, rfl⟩
  · exact br_t rfl (wt_val_out h (br_f (by decide) (br_t rfl hp)))
  · exact br_t rfl (wt_val_in hi (br_f (by decide) (br_t (h5 i hi) hp)))
theorem wt_175 {w : Int32} (hp : P 1 ()) (h : wt_K x2 x7 w a4 a5 a6) : wL_lawOf_175 P mc ms x2 x3 x4 x7 w kc ks t f1 f2 a1 a2 a3 a4 a5 a6 a7 a8 a9 a10 a11 a12 a13 := by
  unfold wL_lawOf_175
  rcases h with ⟨rfl, k, hk, rfl, h4, h5, h5', ho⟩ | ⟨rfl, hx, rfl, h5⟩
  · refine wt_val_in hk (br_t h5 (wt_num_in hk h4 ho (fun e => ?_) (fun e => ?_)))
    · exact br_t rfl (br_t (e.symm.trans h5) (wt_217i hp hk e h5'))
    · exact br_t rfl (br_f (fun z => e (h5.trans z.symm)) (wt_217i hp hk pk_us (fun j hj hn => by rw [pk_un hn]; exact h5' j hj hn)))
  · exact wt_val_out hx (br_t rfl (wt_num_out hx (br_f (by decide) (wt_217o hp h5))))
theorem wt_156 {w z : Int32} (hp : P 1 ()) (h : wt_K x2 x7 w a4 a5 a6) (hw : (x8 = 0 ∧ x0 = 0 ∧ w = x1) ∨ (¬ (x8 = 0 ∧ x0 = 0) ∧ w = 0)) : wL_lawOf_156 P mc ms x0 x1 x2 x3 x4 x7 x8 z z kc ks t f1 f2 a1 a2 a3 a4 a5 a6 a7 a8 a9 a10 a11 a12 a13 := by
  rcases hw with ⟨h8, h0, rfl⟩ | ⟨hn, rfl⟩
  · exact br_t rfl (br_t h8 (br_t h0 (wt_175 hp h)))
  · exact br_t rfl (br_c (fun h8 => br_f (fun h0 => hn ⟨h8, h0⟩) (wt_175 hp h)) (fun _ => wt_175 hp h))
/-- what stands behind formula: due is answered -/
theorem wt_is {w : Int32} (hp : P 1 ()) (h : wt_K x2 x7 w a4 a5 a6) (hw : (x8 = 0 ∧ x0 = 0 ∧ w = x1) ∨ (¬ (x8 = 0 ∧ x0 = 0) ∧ w = 0))
    (hi : ∀ k, k < 16 → x2 = nI k → (x8 = 0 ∧ a1 k = 1) ∨ (¬ x8 = 0 ∧ a1 k = 0)) (hx : wt_Off x2 → ¬ x8 = 0) :
    wpX_isFormula (fun r => (x8 = 0 → wL_lawOf_156 P mc ms x0 x1 x2 x3 x4 x7 x8 1 r kc ks t f1 f2 a1 a2 a3 a4 a5 a6 a7 a8 a9 a10 a11 a12 a13) ∧ (¬ x8 = 0 → wL_lawOf_156 P mc ms x0 x1 x2 x3 x4 x7 x8 0 r kc ks t f1 f2 a1 a2 a3 a4 a5 a6 a7 a8 a9 a10 a11 a12 a13)) (t, f1, f2, a1, a2, a3, a4, a5, a6, a7, a8, a9, a10, a11, a12, a13) x2 := by
  rcases wt_ix x2 with h2 | ⟨k, hk, e⟩
  · exact wt_isf_out h2 (br_f (hx h2) (wt_156 hp h hw))
  · have hi' := hi k hk e
    rw [e] at h ⊢
    rcases hi' with ⟨h8, h1⟩ | ⟨h8, h1⟩
    · exact wt_isf_in hk (fun z => absurd z (by rw [h1]; decide)) (fun _ => br_t h8 (wt_156 hp h hw))
    · exact wt_isf_in hk (fun _ => br_f h8 (wt_156 hp h hw)) (fun z => absurd (show a1 k ≤ 0 by rw [h1]; decide) z)
theorem wt_59 {z : Int32} (H1 : wt_Off x2 → wL_lawOf_79 P mc ms x0 x1 x2 x3 x4 x6 1 kc ks t f1 f2 a1 a2 a3 a4 a5 a6 a7 a8 a9 a10 a11 a12 a13) (H0 : ∀ k, k < 16 → x2 = nI k → wL_lawOf_79 P mc ms x0 x1 x2 x3 x4 x6 0 kc ks t f1 f2 a1 a2 a3 a4 a5 a6 a7 a8 a9 a10 a11 a12 a13) :
    wL_lawOf_59 P mc ms x0 x1 x2 x3 x4 x6 z z kc ks t f1 f2 a1 a2 a3 a4 a5 a6 a7 a8 a9 a10 a11 a12 a13 := by
  rcases wt_ix x2 with h | ⟨k, hk, e⟩
  · exact br_t rfl (br_c (fun _ => H1 h) (fun h0 => br_f (h.elim (fun z => absurd z h0) (fun z => z.2)) (H1 h)))
  · have h := H0 k hk e
    rw [e] at h ⊢
    exact br_t rfl (pk_lt k 0 (fun q => absurd q (by omega)) (fun _ => pk_le k 15 (fun _ => h) (fun q => absurd q (by omega))))
theorem wt_129 (H : wpX_formula (fun r u => match u with | (u0, u1, u2, b1, b2, b3, b4, b5, b6, b7, b8, b9, b10, b11, b12, b13) => ((r = x8 → wpX_isFormula (fun r => (x8 = 0 → wL_lawOf_156 P mc ms x0 x1 x2 x3 x4 x7 x8 1 r kc ks u0 u1 u2 b1 b2 b3 b4 b5 b6 b7 b8 b9 b10 b11 b12 b13) ∧ (¬ x8 = 0 → wL_lawOf_156 P mc ms x0 x1 x2 x3 x4 x7 x8 0 r kc ks u0 u1 u2 b1 b2 b3 b4 b5 b6 b7 b8 b9 b10 b11 b12 b13)) (u0, u1, u2, b1, b2, b3, b4, b5, b6, b7, b8, b9, b10, b11, b12, b13) x2) ∧ (¬ r = x8 → P 0 ()))) (t, f1, f2, a1, a2, a3, a4, a5, a6, a7, a8, a9, a10, a11, a12, a13) x2) : wL_lawOf_129 P mc ms x0 x1 x2 x3 x4 x7 x8 kc ks t f1 f2 a1 a2 a3 a4 a5 a6 a7 a8 a9 a10 a11 a12 a13 := by
  unfold wL_lawOf_129
  exact H
/-- no such cell -/
theorem wt_no (hp : P 1 ()) (hx : wt_Off x2) (h5 : wt_Z a5) : wL_lawOf_79 P mc ms x0 x1 x2 x3 x4 x6 1 kc ks t f1 f2 a1 a2 a3 a4 a5 a6 a7 a8 a9 a10 a11 a12 a13 :=
  br_f (by decide) (wt_129 (wt_form_out hx (br_t rfl (wt_is hp (Or.inr ⟨rfl, hx, rfl, h5⟩) (Or.inr ⟨fun z => absurd z.1 (by decide), rfl⟩) (fun k hk e => absurd e (wt_off_ne hx hk)) (fun _ => by decide)))))
theorem wt_inj {j k : Nat} (hj : j < 16) (hk : k < 16) (e : nI k = nI j) : k = j := (nI_eq (by omega) (by omega)).mp e
/-- a refused token -/
theorem wt_bad {k : Nat} (hp : P 1 ()) (h0 : ¬ x0 = 0) (hk : k < 16) (h1 : wt_Z a1) (h4 : wt_Z a4) (h5 : wt_Z a5) (ho : wt_Or a6) : wL_lawOf_79 P mc ms x0 x1 (nI k) x3 x4 1 0 kc ks 0 f1 f2 a1 a2 a3 a4 a5 a6 a7 a8 a9 a10 a11 a12 a13 :=
  br_t rfl (br_f h0 (br_f (by decide) (wt_129 (wt_form_0 hk h4 ho (br_t rfl (wt_is hp (Or.inl ⟨rfl, k, hk, rfl, fun j hj _ => h4 j hj, h5 k hk, fun j hj _ => h5 j hj, ho⟩) (Or.inr ⟨fun z => h0 z.2, rfl⟩) (fun i hi _ => Or.inr ⟨by decide, h1 i hi⟩) (fun _ => by decide)))))))
/-- a taken token -/
theorem wt_ok {k : Nat} (hp : P 1 ()) (hg : wt_Good x0 x1) (hk : k < 16) (h1 : wt_Z a1) (h4 : wt_Z a4) (h5 : wt_Z a5) (ho : wt_Or a6) (h7 : a7 0 = x0) (h8 : a8 0 = x1) : wL_lawOf_79 P mc ms x0 x1 (nI k) x3 x4 0 0 kc ks 1 f1 f2 a1 a2 a3 a4 a5 a6 a7 a8 a9 a10 a11 a12 a13 := by
  have hT : ∀ i, i < 16 → nI k = nI i → ((0 : Int32) = 0 ∧ upd a1 k 1 i = 1) ∨ (¬ (0 : Int32) = 0 ∧ upd a1 k 1 i = 0) := fun i hi e => Or.inl ⟨rfl, by rw [wt_inj hi hk e, pk_us]⟩
  refine br_t rfl (br_c (fun h0 => ?_) (fun h0 => br_t rfl (br_c (fun h01 => ?_) (fun h01 => ?_))))
  · refine wt_129 (wt_form_n hk h4 h5 ho (h7.trans h0) (fun c2 c3 w g b hw hw' hg' => br_t rfl (wt_is hp (Or.inl ⟨rfl, k, hk, rfl, fun j hj hn => ?_, rfl, hw', hg'⟩) (Or.inl ⟨rfl, h0, hw.trans h8⟩) hT (fun z => absurd rfl (wt_off_ne z hk)))))
    rw [pk_un hn]
    exact h4 j hj
  · obtain ⟨m, hm, e⟩ := hg.2.2 h01
    refine br_c (fun e2 => ?_) (fun e2 => ?_)
    · refine wt_129 (wt_form_c hk h4 ho (h7.trans h01) (h8.trans e2) (br_t rfl (wt_is hp (Or.inl ⟨rfl, k, hk, rfl, fun j hj _ => h4 j hj, h5 k hk, fun j hj _ => h5 j hj, ho⟩) (Or.inr ⟨fun z => h0 z.2, rfl⟩) (fun i hi _ => Or.inr ⟨by decide, h1 i hi⟩) (fun _ => by decide))))
    · refine wt_129 (wt_form_m hk hm (fun z => e2 (by rw [e, z])) h4 h5 ho (h7.trans h01) (h8.trans e) (fun s c2 c3 w g b hw hw' hg' => br_t rfl (wt_is hp (Or.inl ⟨rfl, k, hk, rfl, fun j hj hn => ?_, hw, hw', hg'⟩) (Or.inr ⟨fun z => h0 z.2, rfl⟩) hT (fun z => absurd rfl (wt_off_ne z hk)))))
      rw [pk_un hn]
      exact h4 j hj
  · have hb : 1 < a7 0 := by
      rw [h7]
      obtain ⟨j, hj, e⟩ := nI_of hg.1
      rw [e] at h0 h01 ⊢
      have n0 : j ≠ 0 := fun z => h0 (by rw [z]; rfl)
      have n1 : j ≠ 1 := fun z => h01 (by rw [z]; rfl)
      exact nI_lt (a := 1) (by omega) hj
    exact wt_129 (wt_form_u hk h4 ho hb (br_t rfl (wt_is hp (Or.inl ⟨rfl, k, hk, rfl, fun j hj _ => h4 j hj, h5 k hk, fun j hj _ => h5 j hj, ho⟩) (Or.inr ⟨fun z => h0 z.2, rfl⟩) (fun i hi _ => Or.inr ⟨by decide, h1 i hi⟩) (fun _ => by decide))))
theorem wt_39b {g : Nat → Int32} (hp : P 1 ()) (hb : wt_Bad x0 x1) (hg : wt_Or g) : wL_lawOf_39 P mc ms x0 x1 x2 x3 x4 1 kc ks 0 0 0 wt_z wt_z wt_z wt_z wt_z g wt_z wt_z wt_z wt_z wt_z wt_z wt_z := by
  unfold wL_lawOf_39
  have h0 : ¬ x0 = 0 := by
    intro e
    subst e
    rcases hb with h | h | h
    · exact absurd h (by decide)
    · exact absurd h (by decide)
    · exact absurd h.1 (by decide)
  have hz : wt_Z wt_z := fun _ _ => rfl
  refine wt_tok_bad hb (br_f (by decide) (wt_59 (fun hx => wt_no hp hx hz) (fun k hk e => ?_)))
  rw [e]
  exact wt_bad hp h0 hk hz hz hz hg
theorem wt_39g {g : Nat → Int32} (hp : P 1 ()) (hb : wt_Good x0 x1) (hg : wt_Or g) : wL_lawOf_39 P mc ms x0 x1 x2 x3 x4 0 kc ks 0 0 0 wt_z wt_z wt_z wt_z wt_z g wt_z wt_z wt_z wt_z wt_z wt_z wt_z := by
  unfold wL_lawOf_39
  have hz : wt_Z wt_z := fun _ _ => rfl
  refine wt_tok_ok hb (br_t rfl (wt_59 (fun hx => wt_no hp hx hz) (fun k hk e => ?_)))
  rw [e]
  exact wt_ok hp hb hk hz hz hz hg pk_us pk_us
theorem wt_lawOf (hp : P 1 ()) : wpL_lawOf P 14 403 () x0 x1 x2 x3 x4 := by
  refine And.intro (by decide) ⟨by decide, 13, 387, by decide, by decide, wt_init (fun g hg => ?_)⟩
  refine br_c (fun h => wt_39b hp (Or.inl h) hg) (fun h0 => br_c (fun h => wt_39b hp (Or.inr (Or.inl h)) hg) (fun h1 => br_c (fun h2 => ?_) (fun h2 => wt_39g hp ⟨h0, h1, fun z => absurd z h2⟩ hg)))
  rcases wt_ix x1 with h | ⟨m, hm, e⟩
  · have hb : wt_Bad x0 x1 := Or.inr (Or.inr ⟨h2, h⟩)
    exact br_c (fun _ => wt_39b hp hb hg) (fun h3 => br_f (h.elim (fun z => absurd z h3) (fun z => z.2)) (wt_39b hp hb hg))
  · have hb : wt_Good x0 x1 := ⟨h0, h1, fun _ => ⟨m, hm, e⟩⟩
    refine br_f (by rw [e]; exact nI_pos (by omega)) (br_t (by rw [e]; exact nI_le (b := 15) (by omega) (by decide)) (wt_39g hp hb hg))
end
theorem wt_cell {post : Int32 → Prop} {L : Nat} {xs : Nat → Int32} {k : Nat} (hL : L ≤ 5) (hk : k < 5) (H : ∀ r, post r) : wpL_cellAt post L xs () (nI k) :=
  pk_le L k (fun _ => H _) (fun q => ⟨pk_in k L q, H _⟩)
theorem i_vc (xs : Nat → Int32) (L : Nat) (hL : L ≤ 5) : wpL_law (fun r => r = 1) L xs := by
  unfold wpL_law
  exact wt_cell (k := 0) hL (by omega) (fun _ => wt_cell (k := 1) hL (by omega) (fun _ => wt_cell (k := 2) hL (by omega) (fun _ => wt_cell (k := 3) hL (by omega) (fun _ => wt_cell (k := 4) hL (by omega) (fun _ => ⟨14, 403, by decide, by decide, wt_lawOf rfl⟩)))))
end
