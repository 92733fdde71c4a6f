section
/-! plain rows: the draft holds at most one corner, so every product of cells of two corners is nought -/
/-- a corner's number -/
def cr_co (k : Int32) : Prop := ¬ k < 0 ∧ k ≤ 2
/-- a part within -20 .. 20 -/
def cr_rg (v : Int32) : Prop := ¬ v < (-20) ∧ ¬ 20 < v
/-- all corners but k are nought -/
def cr_row (k : Nat) (d : Nat → Int32) : Prop := ∀ j, j < 12 → j / 4 ≠ k → d j = 0
/-- of two cells of different corners one is nought -/
def cr_one (d : Nat → Int32) : Prop := ∀ i j, i < 12 → j < 12 → i / 4 ≠ j / 4 → d i = 0 ∨ d j = 0
theorem cr_one_of {k : Nat} {d : Nat → Int32} (h : cr_row k d) : cr_one d := by
  intro i j hi hj hn
  by_cases e : i / 4 = k
  · exact Or.inr (h j hj (by omega))
  · exact Or.inl (h i hi e)
theorem cr_one_eq {d b : Nat → Int32} (h : cr_one d) (hb : ∀ j, j < 12 → b j = d j) : cr_one b := by
  intro i j hi hj hn
  rw [hb i hi, hb j hj]
  exact h i j hi hj hn
theorem cr_row_0 (k : Nat) : cr_row k (fun _ => 0) := fun _ _ _ => rfl
theorem cr_row_upd {k p : Nat} {d : Nat → Int32} {v : Int32} (h : cr_row k d) (hp : p / 4 = k) : cr_row k (upd d p v) := by
  intro j hj hn
  rw [pk_un (show j ≠ p from fun e => hn (by rw [e]; exact hp))]
  exact h j hj hn
theorem cr_mul {d : Nat → Int32} (h : cr_one d) (i j : Nat) (hi : i < 12) (hj : j < 12) (hn : i / 4 ≠ j / 4) : d i * d j = 0 := by
  rcases h i j hi hj hn with e | e
  · rw [e, Int32.zero_mul]
  · rw [e, Int32.mul_zero]
theorem cr_mulL {d : Nat → Int32} (h : cr_one d) (i j : Nat) (hi : i < 12) (hj : j < 12) (hn : i / 4 ≠ j / 4) : (d i).toInt64 * (d j).toInt64 = 0 := by
  have z : (0 : Int32).toInt64 = 0 := by decide
  rcases h i j hi hj hn with e | e
  · rw [e, z, Int64.zero_mul]
  · rw [e, z, Int64.mul_zero]
theorem cr_vol {d : Nat → Int32} (h : cr_one d) : d 0 * (d 5 * d 11 - d 9 * d 7) - d 1 * (d 4 * d 11 - d 8 * d 7) + d 3 * (d 4 * d 9 - d 8 * d 5) = 0 := by
  rw [cr_mul h 5 11 (by decide) (by decide) (by decide), cr_mul h 9 7 (by decide) (by decide) (by decide), cr_mul h 4 11 (by decide) (by decide) (by decide), cr_mul h 8 7 (by decide) (by decide) (by decide), cr_mul h 4 9 (by decide) (by decide) (by decide), cr_mul h 8 5 (by decide) (by decide) (by decide)]
  have z : (0 : Int32) - 0 = 0 := by decide
  have w : (0 : Int32) + 0 = 0 := by decide
  rw [z, Int32.mul_zero, Int32.mul_zero, Int32.mul_zero, z, w]
theorem cr_min {d : Nat → Int32} (h : cr_one d) (a b f g : Nat) (ha : a < 3) (hb : b < 3) (hf : f < 4) (hg : g < 4) (hn : a ≠ b) : (d (4 * a + f)).toInt64 * (d (4 * b + g)).toInt64 - (d (4 * b + f)).toInt64 * (d (4 * a + g)).toInt64 = 0 := by
  rw [cr_mulL h (4 * a + f) (4 * b + g) (by omega) (by omega) (by omega), cr_mulL h (4 * b + f) (4 * a + g) (by omega) (by omega) (by omega)]
  decide
theorem cr_fill {f s : Nat → Int32} {i k : Nat} {x : Int32} (hk : k = i) (h : ∀ j, j < i → s j = f j) (hx : x = f i) : ∀ j, j < i + 1 → upd s k x j = f j := by
  intro j hj
  rw [hk]
  by_cases e : j = i
  · rw [e, pk_us, hx]
  · rw [pk_un e]
    exact h j (by omega)
theorem cr_4 (k f : Nat) : nI 4 * nI k + nI f = nI (4 * k + f) := by
  rw [pk_mul, nI_add]
theorem cr_12 (n : Nat) : (12 : Int32) * 0 + nI n = nI n := by
  rw [Int32.mul_zero, Int32.zero_add]
theorem cr_16 (n : Nat) : (16 : Int32) * 0 + nI n = nI n := by
  rw [Int32.mul_zero, Int32.zero_add]
theorem cr_ix (a f : Nat) : ((12 : Int32) * 0 + 4 * nI a) + nI f = nI (4 * a + f) := by
  rw [Int32.mul_zero, Int32.zero_add]
  exact cr_4 a f
theorem cr_coI {x : Int32} (h : cr_co x) : ∃ k : Nat, k ≤ 2 ∧ x = nI k := nI_of2 (M := 2) (n := 2) (by decide) h.1 h.2
theorem cr_coN {k : Nat} (h : k < 3) : cr_co (nI k) := by
  have : k = 0 ∨ k = 1 ∨ k = 2 := by omega
  rcases this with rfl | rfl | rfl
  · exact ⟨by decide, by decide⟩
  · exact ⟨by decide, by decide⟩
  · exact ⟨by decide, by decide⟩
end
section
/-! a lemma a method -/
section
variable {g0 g1 g2 g3 : Int32} {a1 a2 a3 a4 a5 : Nat → Int32} {a6 a7 a8 a9 a10 a11 a12 a13 a14 a15 a16 a17 : Nat → Int64}
theorem cr_inR {post : Int32 → Prop} {v : Int32} (h1 : cr_rg v → post 1) (h0 : ¬ cr_rg v → post 0) : wpX_inRange post () v :=
  br_c (fun a => h0 (fun h => h.1 a)) (fun a => br_c (fun b => h0 (fun h => h.2 b)) (fun b => h1 ⟨a, b⟩))
theorem cr_place {post : Int32 → St2 → Prop} {p0 p1 p2 : Int32} (hb : ¬ cr_co p0 → post (-1) (g0, g1, g2, g3, a1, a2, a3, a4, a5, a6, a7, a8, a9, a10, a11, a12, a13, a14, a15, a16, a17)) (hr : cr_co p0 → ¬ (cr_rg p1 ∧ cr_rg p2) → post (-2) (g0, g1, g2, g3, a1, a2, a3, a4, a5, a6, a7, a8, a9, a10, a11, a12, a13, a14, a15, a16, a17))
    (ho : cr_co p0 → (cr_rg p1 ∧ cr_rg p2) → ∀ (k : Nat) (b : Nat → Int32), k < 3 → p0 = nI k → (cr_row k a1 → cr_row k b) → post 0 (g0, g1, g2, g3, b, a2, a3, a4, a5, a6, a7, a8, a9, a10, a11, a12, a13, a14, a15, a16, a17)) : wpX_place post (g0, g1, g2, g3, a1, a2, a3, a4, a5, a6, a7, a8, a9, a10, a11, a12, a13, a14, a15, a16, a17) p0 p1 p2 := by
  refine br_c (fun a => hb (fun h => h.1 a)) (fun a => br_c (fun b => cr_inR (fun c => br_f (by decide) (cr_inR (fun d => br_f (by decide) ?_) (fun d => br_t rfl (hr ⟨a, b⟩ (fun h => d h.2))))) (fun c => br_t rfl (hr ⟨a, b⟩ (fun h => c h.1)))) (fun b => hb (fun h => b h.2)))
  obtain ⟨k, hk, e⟩ := cr_coI ⟨a, b⟩
  have e0 : 4 * p0 = nI (4 * k) := by rw [e]; exact pk_mul 4 k
  have e1 : 4 * p0 + 1 = nI (4 * k + 1) := by rw [e]; exact cr_4 k 1
  rw [e1, e0, nI_clamp (show 4 * k < 2 ^ 31 by omega), nI_clamp (show 4 * k + 1 < 2 ^ 31 by omega)]
  exact ⟨pk_in (4 * k) 12 (by omega), nm_e ⟨pk_in (4 * k + 1) 12 (by omega), nm_e (ho ⟨a, b⟩ ⟨c, d⟩ k _ (by omega) e (fun h => cr_row_upd (cr_row_upd h (by omega)) (by omega)))⟩⟩
theorem cr_depth {post : Int32 → St2 → Prop} {p0 p1 p2 : Int32} (hb : ¬ cr_co p0 → post (-1) (g0, g1, g2, g3, a1, a2, a3, a4, a5, a6, a7, a8, a9, a10, a11, a12, a13, a14, a15, a16, a17)) (hr : cr_co p0 → ¬ (cr_rg p1 ∧ cr_rg p2) → post (-2) (g0, g1, g2, g3, a1, a2, a3, a4, a5, a6, a7, a8, a9, a10, a11, a12, a13, a14, a15, a16, a17))
    (ho : cr_co p0 → (cr_rg p1 ∧ cr_rg p2) → ∀ (k : Nat) (b : Nat → Int32), k < 3 → p0 = nI k → (cr_row k a1 → cr_row k b) → post 0 (g0, g1, g2, g3, b, a2, a3, a4, a5, a6, a7, a8, a9, a10, a11, a12, a13, a14, a15, a16, a17)) : wpX_depth post (g0, g1, g2, g3, a1, a2, a3, a4, a5, a6, a7, a8, a9, a10, a11, a12, a13, a14, a15, a16, a17) p0 p1 p2 := by
  refine br_c (fun a => hb (fun h => h.1 a)) (fun a => br_c (fun b => cr_inR (fun c => br_f (by decide) (cr_inR (fun d => br_f (by decide) ?_) (fun d => br_t rfl (hr ⟨a, b⟩ (fun h => d h.2))))) (fun c => br_t rfl (hr ⟨a, b⟩ (fun h => c h.1)))) (fun b => hb (fun h => b h.2)))
  obtain ⟨k, hk, e⟩ := cr_coI ⟨a, b⟩
  have e0 : 4 * p0 + 2 = nI (4 * k + 2) := by rw [e]; exact cr_4 k 2
  have e1 : 4 * p0 + 3 = nI (4 * k + 3) := by rw [e]; exact cr_4 k 3
  rw [e1, e0, nI_clamp (show 4 * k + 2 < 2 ^ 31 by omega), nI_clamp (show 4 * k + 3 < 2 ^ 31 by omega)]
  exact ⟨pk_in (4 * k + 2) 12 (by omega), nm_e ⟨pk_in (4 * k + 3) 12 (by omega), nm_e (ho ⟨a, b⟩ ⟨c, d⟩ k _ (by omega) e (fun h => cr_row_upd (cr_row_upd h (by omega)) (by omega)))⟩⟩
theorem cr_volume {post : Int32 → Prop} (h : cr_one a1) (hp : post 0) : wpX_volume post (g0, g1, g2, g3, a1, a2, a3, a4, a5, a6, a7, a8, a9, a10, a11, a12, a13, a14, a15, a16, a17) :=
  nm_e (nm_e (nm_e (ek_v (P := post) (cr_vol h) hp)))
theorem cr_draw51 {post : Int32 → St2 → Prop} (H : ∀ b : Nat → Int32, (∀ j, j < 12 → b j = a1 j) → post 0 (1, g1, g2, 0, a1, b, a3, a4, a5, a6, a7, a8, a9, a10, a11, a12, a13, a14, a15, a16, a17)) : ∃ n, wX_draw_51 post 0 g1 g2 g3 n 0 a1 a2 a3 a4 a5 a6 a7 a8 a9 a10 a11 a12 a13 a14 a15 a16 a17 :=
  pk_loop (fun n i s => wX_draw_51 post 0 g1 g2 g3 n (nI i) a1 s a3 a4 a5 a6 a7 a8 a9 a10 a11 a12 a13 a14 a15 a16 a17) (fun i s => ∀ j, j < i → s j = a1 j) 12 0 a2 (by omega) (fun j hj => absurd hj (by omega))
    (fun n s h => pk_le 12 12 (fun _ => nm_r (show (0 : Int32) + 1 = 1 by decide) (ek_v (P := fun r => post r (1, g1, g2, 0, a1, s, a3, a4, a5, a6, a7, a8, a9, a10, a11, a12, a13, a14, a15, a16, a17)) (show (1 : Int32) - 1 = 0 by decide) (H s h))) (fun z => absurd z (by omega)))
    (fun n i s hi h hw => pk_le 12 i (fun z => absurd z (by omega)) (fun _ => ⟨pk_in i 12 hi, pk_in i 120 (by omega) (cr_12 i), nm_e (nm_r (nI_1 i) (hw _ (cr_fill (pk_cl i (cr_12 i)) h (by rw [nI_clamp (by omega)]))))⟩))
theorem cr_draw {post : Int32 → St2 → Prop} {x5 : Int32} (h1 : cr_one a1) (hb : ¬ cr_co x5 → post (-1) (0, g1, g2, g3, a1, a2, a3, a4, a5, a6, a7, a8, a9, a10, a11, a12, a13, a14, a15, a16, a17)) (h3 : cr_co x5 → ¬ x5 = 0 → post (-3) (0, g1, g2, g3, a1, a2, a3, a4, a5, a6, a7, a8, a9, a10, a11, a12, a13, a14, a15, a16, a17))
    (h0 : x5 = 0 → ∀ b : Nat → Int32, (∀ j, j < 12 → b j = a1 j) → post 0 (1, g1, g2, 0, a1, b, a3, a4, a5, a6, a7, a8, a9, a10, a11, a12, a13, a14, a15, a16, a17)) : wpX_draw post (0, g1, g2, g3, a1, a2, a3, a4, a5, a6, a7, a8, a9, a10, a11, a12, a13, a14, a15, a16, a17) x5 := by
  refine br_c (fun a => hb (fun h => h.1 a)) (fun a => br_c (fun b => br_f (by decide) (cr_volume h1 (br_c (fun e => br_t (by decide) (h3 ⟨a, b⟩ (by rw [e]; decide))) (fun n1 => ?_)))) (fun b => hb (fun h => b h.2)))
  unfold wX_draw_37
  refine br_c (fun e => br_f (by decide) (h3 ⟨a, b⟩ (by rw [e]; decide))) (fun n2 => cr_draw51 (h0 ?_))
  obtain ⟨k, hk, e⟩ := cr_coI ⟨a, b⟩
  have : k = 0 ∨ k = 1 ∨ k = 2 := by omega
  rcases this with rfl | rfl | rfl
  · exact e
  · exact absurd e n1
  · exact absurd e n2
theorem cr_minor {post : Int64 → Prop} (a b f g : Nat) (ha : a < 3) (hb : b < 3) (hf : f < 4) (hg : g < 4)
    (H : post ((a2 (4 * a + f)).toInt64 * (a2 (4 * b + g)).toInt64 - (a2 (4 * b + f)).toInt64 * (a2 (4 * a + g)).toInt64)) : wpX_minor post (g0, g1, g2, g3, a1, a2, a3, a4, a5, a6, a7, a8, a9, a10, a11, a12, a13, a14, a15, a16, a17) 0 (nI a) (nI b) (nI f) (nI g) := by
  unfold wpX_minor
  intro x6 e6
  subst e6
  rw [cr_ix a f, cr_ix b g, cr_ix b f, cr_ix a g, nI_clamp (show 4 * a + f < 2 ^ 31 by omega), nI_clamp (show 4 * b + g < 2 ^ 31 by omega), nI_clamp (show 4 * b + f < 2 ^ 31 by omega), nI_clamp (show 4 * a + g < 2 ^ 31 by omega)]
  exact ⟨pk_in (4 * a + f) 120 (by omega), pk_in (4 * b + g) 120 (by omega), nm_e ⟨pk_in (4 * b + f) 120 (by omega), pk_in (4 * a + g) 120 (by omega), nm_e H⟩⟩
theorem cr_fd184 {post : St2 → Prop} {x2 x4 x6 z0 : Int64} (H : ∀ b6 b7 b8 b9 : Nat → Int64, b9 0 = 0 → post (g0, g1, g2, g3, a1, a2, a3, a4, a5, b6, b7, b8, b9, a10, a11, a12, a13, a14, a15, a16, a17)) : wX_findDepth_184 post 0 x2 x4 x6 0 z0 g0 g1 g2 g3 a1 a2 a3 a4 a5 a6 a7 a8 a9 a10 a11 a12 a13 a14 a15 a16 a17 := by
  refine ⟨pk_in 0 10 (by omega), nm_e ⟨pk_in 0 10 (by omega), nm_e ⟨pk_in 0 10 (by omega), nm_e ⟨pk_in 0 10 (by omega), nm_e (H _ _ _ _ ?_)⟩⟩⟩⟩
  rw [show (0 : Int32).toNatClampNeg = 0 by decide, pk_uLs, Int64.mul_zero, Int64.zero_mul]
theorem cr_fd50 {post : St2 → Prop} {J : Int64 → Int64 → Int64 → Int64 → Int32 → Prop} {x10 x11 z0 : Int32} {x2 x4 x6 : Int64} (k a b : Nat) (hk : k < 3) (ha : a < 3) (hb : b < 3) (hn : a ≠ b) (e10 : x10 = nI k) (e11 : x11 = nI a) (ez : z0 = nI b)
    (h1 : cr_one a2) (H : ∀ y2 y4 y6, J y2 y4 y6 0 (nI (k + 1))) : wX_findDepth_50 post J 0 x2 x4 x6 0 x10 x11 z0 g0 g1 g2 g3 a1 a2 a3 a4 a5 a6 a7 a8 a9 a10 a11 a12 a13 a14 a15 a16 a17 := by
  subst e10 e11 ez
  refine ⟨pk_in (4 * k + 2) 120 (by omega) (cr_ix k 2), nm_e (cr_minor a b 1 3 ha hb (by omega) (by omega) (cr_minor a b 0 3 ha hb (by omega) (by omega) (nm_e (cr_minor a b 0 1 ha hb (by omega) (by omega) ?_))))⟩
  rw [cr_min h1 a b 0 1 ha hb (by omega) (by omega) hn]
  refine nm_e (nm_e (nm_e ⟨pk_in (4 * k + 3) 120 (by omega) (cr_ix k 3), nm_r (e' := 0) ?_ (nm_r (nI_1 k) (H _ _ _))⟩))
  rw [Int64.mul_zero, Int64.zero_add]
theorem cr_fd {post : St2 → Prop} (h1 : cr_one a2) (H : ∀ b6 b7 b8 b9 : Nat → Int64, b9 0 = 0 → post (g0, g1, g2, g3, a1, a2, a3, a4, a5, b6, b7, b8, b9, a10, a11, a12, a13, a14, a15, a16, a17)) : wpX_findDepth post (g0, g1, g2, g3, a1, a2, a3, a4, a5, a6, a7, a8, a9, a10, a11, a12, a13, a14, a15, a16, a17) 0 := by
  refine pk_loop (σ := Int64 × Int64 × Int64) (fun n i s => wX_findDepth_14 post 0 g0 g1 g2 g3 a1 a2 a3 a4 a5 a6 a7 a8 a9 a10 a11 a12 a13 a14 a15 a16 a17 n s.1 s.2.1 s.2.2 0 (nI i)) (fun _ _ => True) 3 0 (0, 0, 0) (by omega) trivial
    (fun n s _ => pk_le 3 3 (fun _ => br_t (by decide) (cr_fd184 H)) (fun z => absurd z (by omega))) ?_
  intro n i s hi _ hw
  have hJ : ∀ y2 y4 y6, wX_findDepth_14 post 0 g0 g1 g2 g3 a1 a2 a3 a4 a5 a6 a7 a8 a9 a10 a11 a12 a13 a14 a15 a16 a17 n y2 y4 y6 0 (nI (i + 1)) := fun y2 y4 y6 => hw (y2, y4, y6) trivial
  have : i = 0 ∨ i = 1 ∨ i = 2 := by omega
  rcases this with rfl | rfl | rfl
  · exact br_f (by decide) (br_f (by decide) (br_f (by decide) (cr_fd50 0 1 2 (by omega) (by omega) (by omega) (by omega) rfl (by decide) (by decide) h1 hJ)))
  · exact br_f (by decide) (br_f (by decide) (br_t (by decide) (cr_fd50 1 2 0 (by omega) (by omega) (by omega) (by omega) rfl (by decide) (by decide) h1 hJ)))
  · exact br_f (by decide) (br_t (by decide) (br_f (by decide) (cr_fd50 2 0 1 (by omega) (by omega) (by omega) (by omega) rfl (by decide) (by decide) h1 hJ)))
theorem cr_clear {post : St2 → Prop} (H : ∀ b3 b4 : Nat → Int32, (∀ j, j < 16 → b3 j = 16) → (∀ j, j < 16 → b4 j = -1) → post (g0, g1, g2, g3, a1, a2, b3, b4, a5, a6, a7, a8, a9, a10, a11, a12, a13, a14, a15, a16, a17)) : wpX_clear post (g0, g1, g2, g3, a1, a2, a3, a4, a5, a6, a7, a8, a9, a10, a11, a12, a13, a14, a15, a16, a17) 0 :=
  pk_loop (σ := (Nat → Int32) × (Nat → Int32)) (fun n i s => wX_clear_2 post 0 g0 g1 g2 g3 n (nI i) a1 a2 s.1 s.2 a5 a6 a7 a8 a9 a10 a11 a12 a13 a14 a15 a16 a17) (fun i s => (∀ j, j < i → s.1 j = 16) ∧ (∀ j, j < i → s.2 j = -1)) 16 0 (a3, a4) (by omega) ⟨fun j hj => absurd hj (by omega), fun j hj => absurd hj (by omega)⟩
    (fun n s h => pk_le 16 16 (fun _ => H s.1 s.2 h.1 h.2) (fun z => absurd z (by omega)))
    (fun n i s hi h hw => pk_le 16 i (fun z => absurd z (by omega)) (fun _ => ⟨pk_in i 160 (by omega) (cr_16 i), nm_e ⟨pk_in i 160 (by omega) (cr_16 i), nm_e (nm_r (nI_1 i) (hw (_, _) ⟨cr_fill (f := fun _ => 16) (pk_cl i (cr_16 i)) h.1 rfl, cr_fill (f := fun _ => -1) (pk_cl i (cr_16 i)) h.2 rfl⟩))⟩⟩))
theorem cr_ref38 {post : St2 → Prop} (h1 : cr_one a2) (H : ∀ (b3 b4 : Nat → Int32) (b6 b7 b8 b9 : Nat → Int64), (∀ j, j < 16 → b3 j = 16) → (∀ j, j < 16 → b4 j = -1) → post (1, g1, g2, g3, a1, a2, b3, b4, a5, b6, b7, b8, b9, a10, a11, a12, a13, a14, a15, a16, a17)) : ∃ n, wX_refresh_38 post n 0 1 g1 g2 g3 a1 a2 a3 a4 a5 a6 a7 a8 a9 a10 a11 a12 a13 a14 a15 a16 a17 := by
  refine ⟨2, br_f (by decide) (cr_fd h1 (fun b6 b7 b8 b9 h9 => cr_clear (fun b3 b4 h3 h4 => ⟨pk_in 0 10 (by omega), br_t ?_ (nm_r (show (0 : Int32) + 1 = 1 by decide) (br_t (by decide) (H b3 b4 b6 b7 b8 b9 h3 h4)))⟩)))⟩
  rw [show (0 : Int32).toNatClampNeg = 0 by decide]
  exact h9
theorem cr_refresh {post : St2 → Prop} (h1 : cr_one a2) (H : ∀ (b3 b4 b5 : Nat → Int32) (b6 b7 b8 b9 : Nat → Int64), (∀ j, j < 16 → b3 j = 16) → (∀ j, j < 16 → b4 j = -1) → post (1, g1, g2, 1, a1, a2, b3, b4, b5, b6, b7, b8, b9, a10, a11, a12, a13, a14, a15, a16, a17)) : wpX_refresh post (1, g1, g2, 0, a1, a2, a3, a4, a5, a6, a7, a8, a9, a10, a11, a12, a13, a14, a15, a16, a17) :=
  br_t rfl (pk_loop (fun n i s => wX_refresh_15 post 1 g1 g2 1 n (nI i) a1 a2 a3 a4 s a6 a7 a8 a9 a10 a11 a12 a13 a14 a15 a16 a17) (fun _ _ => True) 256 0 a5 (by omega) trivial
    (fun n s _ => pk_le 256 256 (fun _ => cr_ref38 h1 (fun b3 b4 b6 b7 b8 b9 h3 h4 => H b3 b4 s b6 b7 b8 b9 h3 h4)) (fun z => absurd z (by omega)))
    (fun n i s hi _ hw => pk_le 256 i (fun z => absurd z (by omega)) (fun _ => ⟨pk_in i 256 hi, nm_e (nm_r (nI_1 i) (hw _ trivial))⟩)))
theorem cr_cov18 {post : Int32 → St2 → Prop} (h3 : ∀ j, j < 16 → a3 j = 16) (h4 : ∀ j, j < 16 → a4 j = -1) (H : post 0 (g0, g1, g2, g3, a1, a2, a3, a4, a5, a6, a7, a8, a9, a10, a11, a12, a13, a14, a15, a16, a17)) : ∃ n, wX_covered_18 post 0 g0 g1 g2 g3 a1 a2 a3 a4 a5 a6 a7 a8 a9 a10 a11 a12 a13 a14 a15 a16 a17 n 0 0 :=
  pk_loop (σ := Unit) (fun n i _ => wX_covered_18 post 0 g0 g1 g2 g3 a1 a2 a3 a4 a5 a6 a7 a8 a9 a10 a11 a12 a13 a14 a15 a16 a17 n 0 (nI i)) (fun _ _ => True) 16 0 () (by omega) trivial
    (fun n _ _ => pk_le 16 16 (fun _ => H) (fun z => absurd z (by omega)))
    (fun n i _ hi _ hw => pk_le 16 i (fun z => absurd z (by omega)) (fun _ => ⟨pk_in i 160 (by omega) (cr_16 i), pk_in i 160 (by omega) (cr_16 i), br_t (by rw [pk_cl i (cr_16 i), h3 i hi, h4 i hi]; decide) (nm_r (nI_1 i) (hw () trivial))⟩))
theorem cr_cov1 {post : Int32 → St2 → Prop} (h1 : cr_one a2) (H : ∀ (b3 b4 b5 : Nat → Int32) (b6 b7 b8 b9 : Nat → Int64), post 0 (1, g1, g2, 1, a1, a2, b3, b4, b5, b6, b7, b8, b9, a10, a11, a12, a13, a14, a15, a16, a17)) : wpX_covered post (1, g1, g2, 0, a1, a2, a3, a4, a5, a6, a7, a8, a9, a10, a11, a12, a13, a14, a15, a16, a17) 0 :=
  br_f (by decide) (br_f (by decide) (br_f (by decide) (cr_refresh h1 (fun b3 b4 b5 b6 b7 b8 b9 h3 h4 => cr_cov18 h3 h4 (H b3 b4 b5 b6 b7 b8 b9)))))
theorem cr_cov0 {post : Int32 → St2 → Prop} (H : post (-1) (0, g1, g2, g3, a1, a2, a3, a4, a5, a6, a7, a8, a9, a10, a11, a12, a13, a14, a15, a16, a17)) : wpX_covered post (0, g1, g2, g3, a1, a2, a3, a4, a5, a6, a7, a8, a9, a10, a11, a12, a13, a14, a15, a16, a17) 0 :=
  br_f (by decide) (br_t (by decide) (br_t rfl H))
end
end
section
/-! the law -/
section
variable {g0 g1 g2 g3 : Int32} {a1 a2 a3 a4 a5 : Nat → Int32} {a6 a7 a8 a9 a10 a11 a12 a13 a14 a15 a16 a17 : Nat → Int64}
variable {post : Int32 → St0 → Prop} {mc ms kc ks : Nat}
theorem cr_192 {x5 z0 : Int32} (hz : (¬ cr_co x5 ∧ z0 = -1) ∨ (cr_co x5 ∧ ¬ x5 = 0 ∧ z0 = -3) ∨ (x5 = 0 ∧ z0 = 0)) (h1 : cr_one a1) (hp : post 1 ()) : wL_lawOf_192 post mc ms x5 z0 kc ks 0 g1 g2 g3 a1 a2 a3 a4 a5 a6 a7 a8 a9 a10 a11 a12 a13 a14 a15 a16 a17 := by
  have c0 : cr_co 0 := ⟨by decide, by decide⟩
  refine cr_draw h1 (fun hb => ?_) (fun hc hn => ?_) (fun he b hb => ?_)
  · have ez : z0 = -1 := by
      rcases hz with h | h | h
      · exact h.2
      · exact absurd h.1 hb
      · exact absurd (h.1 ▸ c0 : cr_co x5) hb
    subst ez
    exact br_t rfl (cr_cov0 (br_f (by decide) (br_t rfl (br_f (by decide) (br_t rfl hp)))))
  · have ez : z0 = -3 := by
      rcases hz with h | h | h
      · exact absurd hc h.1
      · exact h.2.2
      · exact absurd h.1 hn
    subst ez
    exact br_t rfl (cr_cov0 (br_f (by decide) (br_t rfl (br_f (by decide) (br_t rfl hp)))))
  · have ez : z0 = 0 := by
      rcases hz with h | h | h
      · exact absurd (he ▸ c0 : cr_co x5) h.1
      · exact absurd he h.2.1
      · exact h.2
    subst ez
    exact br_t rfl (cr_cov1 (cr_one_eq h1 hb) (fun b3 b4 b5 b6 b7 b8 b9 => br_t rfl (br_t rfl (br_t rfl (br_t rfl hp)))))
theorem cr_151 {x5 z0 z1 : Int32} (he : z1 = z0) (h1 : cr_one a1) (hp : post 1 ()) : wL_lawOf_151 post mc ms x5 z0 z1 kc ks 0 g1 g2 g3 a1 a2 a3 a4 a5 a6 a7 a8 a9 a10 a11 a12 a13 a14 a15 a16 a17 :=
  br_t he (cr_volume h1 (br_t rfl (br_c (fun a => cr_192 (Or.inl ⟨fun h => h.1 a, rfl⟩) h1 hp) (fun a => br_c (fun b => br_c (fun c => cr_192 (Or.inr (Or.inr ⟨c, rfl⟩)) h1 hp) (fun c => cr_192 (Or.inr (Or.inl ⟨⟨a, b⟩, c, rfl⟩)) h1 hp)) (fun b => cr_192 (Or.inl ⟨fun h => b h.2, rfl⟩) h1 hp)))))
theorem cr_117 {x0 x3 x4 x5 x7 x9 z0 z1 : Int32} (he : z1 = z0) (h7 : (cr_co x0 ∧ x7 = 1) ∨ (¬ cr_co x0 ∧ x7 = 0)) (h9 : ((cr_rg x3 ∧ cr_rg x4) ∧ x9 = 1) ∨ (¬ (cr_rg x3 ∧ cr_rg x4) ∧ x9 = 0))
    (h1 : cr_one a1) (hr : ∀ k, k < 3 → x0 = nI k → cr_row k a1) (hp : post 1 ()) : wL_lawOf_117 post mc ms x0 x3 x4 x5 x7 x9 z0 z1 kc ks 0 g1 g2 g3 a1 a2 a3 a4 a5 a6 a7 a8 a9 a10 a11 a12 a13 a14 a15 a16 a17 := by
  refine br_t he (cr_depth (fun hb => ?_) (fun hc hn => ?_) (fun hc hg k b hk ek hb => ?_))
  · rcases h7 with h | h
    · exact absurd h.1 hb
    · exact br_t h.2 (cr_151 rfl h1 hp)
  · rcases h7 with h | h
    · rcases h9 with g | g
      · exact absurd g.1 hn
      · exact br_f (by rw [h.2]; decide) (br_t g.2 (cr_151 rfl h1 hp))
    · exact absurd hc h.1
  · rcases h7 with h | h
    · rcases h9 with g | g
      · exact br_f (by rw [h.2]; decide) (br_f (by rw [g.2]; decide) (cr_151 rfl (cr_one_of (hb (hr k hk ek))) hp))
      · exact absurd hg g.1
    · exact absurd hc h.1
theorem cr_87 {x0 x1 x2 x3 x4 x5 x7 x8 x9 : Int32} (h7 : (cr_co x0 ∧ x7 = 1) ∨ (¬ cr_co x0 ∧ x7 = 0)) (h8 : ((cr_rg x1 ∧ cr_rg x2) ∧ x8 = 1) ∨ (¬ (cr_rg x1 ∧ cr_rg x2) ∧ x8 = 0)) (h9 : ((cr_rg x3 ∧ cr_rg x4) ∧ x9 = 1) ∨ (¬ (cr_rg x3 ∧ cr_rg x4) ∧ x9 = 0))
    (h0 : ∀ k, cr_row k a1) (hp : post 1 ()) : wL_lawOf_87 post mc ms x0 x1 x2 x3 x4 x5 x7 x8 x9 kc ks 0 g1 g2 g3 a1 a2 a3 a4 a5 a6 a7 a8 a9 a10 a11 a12 a13 a14 a15 a16 a17 := by
  refine cr_place (fun hb => ?_) (fun hc hn => ?_) (fun hc hg k b hk ek hb => ?_)
  · rcases h7 with h | h
    · exact absurd h.1 hb
    · exact br_t h.2 (cr_117 rfl (Or.inr h) h9 (cr_one_of (h0 0)) (fun k _ _ => h0 k) hp)
  · rcases h7 with h | h
    · rcases h8 with g | g
      · exact absurd g.1 hn
      · exact br_f (by rw [h.2]; decide) (br_t g.2 (cr_117 rfl (Or.inl h) h9 (cr_one_of (h0 0)) (fun k _ _ => h0 k) hp))
    · exact absurd hc h.1
  · rcases h7 with h | h
    · rcases h8 with g | g
      · refine br_f (by rw [h.2]; decide) (br_f (by rw [g.2]; decide) (cr_117 rfl (Or.inl h) h9 (cr_one_of (hb (h0 k))) (fun j hj ej => ?_) hp))
        have : k = j := (nI_eq (by omega) (by omega)).mp (ek.symm.trans ej)
        exact this ▸ hb (h0 k)
      · exact absurd hg g.1
    · exact absurd hc h.1
theorem cr_54 {x0 x1 x2 x3 x4 x5 x7 x8 : Int32} (h7 : (cr_co x0 ∧ x7 = 1) ∨ (¬ cr_co x0 ∧ x7 = 0)) (h8 : ((cr_rg x1 ∧ cr_rg x2) ∧ x8 = 1) ∨ (¬ (cr_rg x1 ∧ cr_rg x2) ∧ x8 = 0))
    (h0 : ∀ k, cr_row k a1) (hp : post 1 ()) : wL_lawOf_54 post mc ms x0 x1 x2 x3 x4 x5 x7 x8 kc ks 0 g1 g2 g3 a1 a2 a3 a4 a5 a6 a7 a8 a9 a10 a11 a12 a13 a14 a15 a16 a17 := by
  have no : ¬ (cr_rg x3 ∧ cr_rg x4) → wL_lawOf_86 post mc ms x0 x1 x2 x3 x4 x5 x7 x8 kc ks 0 g1 g2 g3 a1 a2 a3 a4 a5 a6 a7 a8 a9 a10 a11 a12 a13 a14 a15 a16 a17 := fun h => cr_87 h7 h8 (Or.inr ⟨h, rfl⟩) h0 hp
  exact br_c (fun a => no (fun h => h.1.1 a)) (fun a => br_c (fun b => no (fun h => h.1.2 b)) (fun b => br_c (fun c => no (fun h => h.2.1 c)) (fun c => br_c (fun d => no (fun h => h.2.2 d)) (fun d => cr_87 h7 h8 (Or.inl ⟨⟨⟨a, b⟩, ⟨c, d⟩⟩, rfl⟩) h0 hp))))
theorem cr_23 {x0 x1 x2 x3 x4 x5 x7 : Int32} (h7 : (cr_co x0 ∧ x7 = 1) ∨ (¬ cr_co x0 ∧ x7 = 0)) (h0 : ∀ k, cr_row k a1) (hp : post 1 ()) : wL_lawOf_23 post mc ms x0 x1 x2 x3 x4 x5 x7 kc ks 0 g1 g2 g3 a1 a2 a3 a4 a5 a6 a7 a8 a9 a10 a11 a12 a13 a14 a15 a16 a17 := by
  have no : ¬ (cr_rg x1 ∧ cr_rg x2) → wL_lawOf_53 post mc ms x0 x1 x2 x3 x4 x5 x7 kc ks 0 g1 g2 g3 a1 a2 a3 a4 a5 a6 a7 a8 a9 a10 a11 a12 a13 a14 a15 a16 a17 := fun h => cr_54 h7 (Or.inr ⟨h, rfl⟩) h0 hp
  exact br_c (fun a => no (fun h => h.1.1 a)) (fun a => br_c (fun b => no (fun h => h.1.2 b)) (fun b => br_c (fun c => no (fun h => h.2.1 c)) (fun c => br_c (fun d => no (fun h => h.2.2 d)) (fun d => cr_54 h7 (Or.inl ⟨⟨⟨a, b⟩, ⟨c, d⟩⟩, rfl⟩) h0 hp))))
end
theorem cr_lawOf {post : Int32 → St0 → Prop} {p0 p1 p2 p3 p4 p5 : Int32} (hp : post 1 ()) : wpL_lawOf post 18 897 () p0 p1 p2 p3 p4 p5 := by
  refine ⟨by omega, by omega, 17, 876, by omega, by omega, ?_⟩
  unfold wpX_init
  dsimp only
  refine ⟨by omega, by omega, by omega, by omega, by omega, by omega, by omega, by omega, by omega, by omega, by omega, by omega, by omega, by omega, by omega, by omega, by omega, by omega, by omega, by omega, by omega, by omega, by omega, by omega, by omega, by omega, by omega, by omega, by omega, by omega, by omega, by omega, by omega, by omega, ?_⟩
  exact br_c (fun a => cr_23 (Or.inr ⟨fun h => h.1 a, rfl⟩) cr_row_0 hp) (fun a => br_c (fun b => cr_23 (Or.inr ⟨fun h => Int32.not_lt.mpr h.2 b, rfl⟩) cr_row_0 hp) (fun b => cr_23 (Or.inl ⟨⟨a, Int32.not_lt.mp b⟩, rfl⟩) cr_row_0 hp))
theorem cr_cell {post : Int32 → Prop} {L : Nat} {xs : Nat → Int32} (i : Nat) (hL : L ≤ 6) (hi : i < 6) (h : ∀ x, post x) : wpL_cellAt post L xs () (nI i) :=
  pk_le L i (fun _ => h _) (fun z => ⟨pk_in i L z, h _⟩)
theorem i_vc (xs : Nat → Int32) (L : Nat) (hL : L ≤ 6) : wpL_law (fun r => r = 1) L xs :=
  cr_cell 0 hL (by omega) (fun r1 => cr_cell 1 hL (by omega) (fun r2 => cr_cell 2 hL (by omega) (fun r3 => cr_cell 3 hL (by omega) (fun r4 => cr_cell 4 hL (by omega) (fun r5 => cr_cell 5 hL (by omega) (fun r6 => ⟨18, 897, by omega, by omega, cr_lawOf rfl⟩))))))
end
