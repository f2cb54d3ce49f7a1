section
section
variable {o f : Int32} {a1 a2 a3 a4 : Nat → Int32}
/-- a times b by 3 -/
theorem dl_mul {post : Int32 → Prop} {a b r : Int32} (h : a * b - a * b / 3 * 3 = r) (H : post r) : wpX_mul post (3, o, f, a1, a2, a3, a4) a b :=
  br_f (by decide) ⟨by decide, ek_v (P := post) h H⟩
theorem dl_p33 {post : Int32 → Prop} {J : Int32 → Int32 → Int32 → Prop} {x2 x3 x4 x5 r : Int32} (h : x4 * x4 - x4 * x4 / 3 * 3 = r) (H : J x3 r (x5 + 1)) : wX_pow_33 post J x2 x3 x4 x5 3 o f a1 a2 a3 a4 := by
  unfold wX_pow_33
  exact dl_mul h (nm_e H)
/-- the square has come to 1: the result stays -/
theorem dl_powT {post : Int32 → Prop} {x R : Int32} (hR : R * 1 - R * 1 / 3 * 3 = R) (H : post R) : ∀ k i : Nat, i + k = 31 → wX_pow_8 post x 3 o f a1 a2 a3 a4 (k + 1) R 1 (nI i) := by
  intro k
  induction k with
  | zero =>
    intro i h
    exact pk_le 31 i (fun _ => H) (fun z => absurd z (by omega))
  | succ k ih =>
    intro i h
    have t := ih (i + 1) (by omega)
    rw [← nI_1] at t
    exact pk_le 31 i (fun z => absurd z (by omega)) (fun _ => br_c (fun _ => dl_mul hR (dl_p33 (by decide) t)) (fun _ => dl_p33 (by decide) t))
theorem dl_pow1 {post : Int32 → Prop} {x : Int32} (H : post 1) : wpX_pow post (3, o, f, a1, a2, a3, a4) 1 x := by
  unfold wpX_pow
  exact ⟨32, dl_powT (by decide) H 31 0 rfl⟩
theorem dl_pow2 {post : Int32 → Prop} {x : Int32} (H1 : x &&& 1 = 1 → post 2) (H0 : ¬ x &&& 1 = 1 → post 1) : wpX_pow post (3, o, f, a1, a2, a3, a4) 2 x := by
  unfold wpX_pow
  refine ⟨32, br_f (by decide) (br_c (fun h => ?_) (fun h => ?_))⟩
  · rw [sb_shr0] at h
    exact dl_mul (r := 2) (by decide) (dl_p33 (r := 1) (by decide) (dl_powT (by decide) (H1 h) 30 1 rfl))
  · rw [sb_shr0] at h
    exact dl_p33 (r := 1) (by decide) (dl_powT (by decide) (H0 h) 30 1 rfl)
/-- a power of 1 or 2 by 3 -/
def dl_P (g x : Int32) : Int32 := if g = 2 ∧ x &&& 1 = 1 then 2 else 1
theorem dl_pow {post : Int32 → Prop} {g x r : Int32} (hg : g = 1 ∨ g = 2) (hr : dl_P g x = r) (H : post r) : wpX_pow post (3, o, f, a1, a2, a3, a4) g x := by
  subst hr
  rcases hg with rfl | rfl
  · exact dl_pow1 H
  · refine dl_pow2 (fun h => ?_) (fun h => ?_)
    · rw [dl_P, if_pos ⟨rfl, h⟩] at H
      exact H
    · rw [dl_P, if_neg (fun z => h z.2)] at H
      exact H
/-- the two units by 3 -/
def dl_U (g : Int32) : Prop := g = 1 ∨ g = 2
theorem dl_12 {g : Int32} (h1 : ¬ g < 1) (h2 : g < 3) : dl_U g := by
  obtain ⟨j, hj, rfl⟩ := nI_of (x := g) (fun z => h1 (Int32.lt_trans z (by decide)))
  have h3 : j < 3 := (nI_ltI hj (by decide)).mp h2
  have h4 : ¬ j < 1 := fun z => h1 ((nI_ltI hj (b := 1) (by decide)).mpr z)
  have h5 : j = 1 ∨ j = 2 := by omega
  rcases h5 with rfl | rfl
  · exact Or.inl rfl
  · exact Or.inr rfl
theorem dl_nu {post : Int32 → Prop} {g : Int32} (H0 : dl_U g → post 0) (H1 : ¬ dl_U g → post 1) : wpX_notUnit post (3, o, f, a1, a2, a3, a4) g :=
  br_c (fun h => H1 (fun z => by rcases z with rfl | rfl <;> exact absurd h (by decide))) (fun h => br_c (fun h2 => H0 (dl_12 h h2)) (fun h2 => H1 (fun z => by rcases z with rfl | rfl <;> exact absurd h2 (by decide))))
theorem dl_power {post : Int32 → Prop} {g x : Int32} (H0 : ¬ dl_U g → post (-1)) (H1 : dl_U g → x < 0 → post (-1)) (H2 : dl_U g → ¬ x < 0 → x ≤ 1000000 → post (dl_P g x)) (H3 : dl_U g → ¬ x < 0 → ¬ x ≤ 1000000 → post (-1)) : wpX_power post (3, o, f, a1, a2, a3, a4) g x := by
  unfold wpX_power
  exact dl_nu (fun u => br_t rfl (br_c (H1 u) (fun h => br_c (fun h2 => dl_pow u rfl (H2 u h h2)) (H3 u h)))) (fun u => br_f (by decide) (H0 u))
theorem dl_invert {post : Int32 → Prop} {g : Int32} (u : dl_U g) (H : post g) : wpX_invert post (3, o, f, a1, a2, a3, a4) g := by
  unfold wpX_invert
  exact dl_pow u (by rcases u with rfl | rfl <;> decide) H
theorem dl_inverse {post : Int32 → Prop} {g : Int32} (H0 : ¬ dl_U g → post (-1)) (H1 : dl_U g → post g) : wpX_inverse post (3, o, f, a1, a2, a3, a4) g := by
  unfold wpX_inverse
  exact dl_nu (fun u => br_t rfl (dl_invert u (H1 u))) (fun u => br_f (by decide) (H0 u))
end
end
section
section
variable {a1 a2 a3 a4 : Nat → Int32}
/-- the order of a unit by 3 is the unit itself -/
theorem dl_ord {post : Int32 → Prop} {g : Int32} (h1 : a1 0 = 2) (h2 : a2 0 = 1) (u : dl_U g) (H : post g) : wpX_orderOf post (3, 2, 1, a1, a2, a3, a4) g := by
  unfold wpX_orderOf
  have k2 : a2 (0 : Int32).toNatClampNeg = 1 := by rw [sb_cl0]; exact h2
  have k1 : a1 (0 : Int32).toNatClampNeg = 2 := by rw [sb_cl0]; exact h1
  refine ⟨2, br_f (by decide) ⟨pk_in 0 5 (by decide), nm_r (e' := 2) k1 ⟨2, ⟨pk_in 0 5 (by decide), ?_⟩⟩⟩⟩
  rw [k2]
  refine br_f (by decide) (br_f (by decide) ⟨by decide, nm_r (e' := 1) (by decide) ?_⟩)
  rcases u with rfl | rfl
  · refine dl_pow (r := 1) (Or.inl rfl) (by decide) (br_t rfl (br_f (by decide) (nm_r (e' := 1) (by decide) ⟨pk_in 0 5 (by decide), ?_⟩)))
    rw [k2]
    exact br_t (by decide) (nm_r (e' := 1) (by decide) (br_t (by decide) H))
  · refine dl_pow (r := 2) (Or.inr rfl) (by decide) (br_f (by decide) (br_t (by decide) (nm_r (e' := 1) (by decide) ⟨pk_in 0 5 (by decide), ?_⟩)))
    rw [k2]
    exact br_t (by decide) (nm_r (e' := 1) (by decide) (br_t (by decide) H))
theorem dl_fill {s : Nat → Int32} {i k : Nat} (hk : k = i) (h : ∀ j, j < i → s j = 0) : ∀ j, j < i + 1 → upd s k 0 j = 0 := by
  intro j hj
  rw [hk]
  by_cases e : j = i
  · rw [e, pk_us]
  · rw [pk_un e]
    exact h j (by omega)
theorem dl_clear {post : St2 → Prop} {p o f : Int32} (H : ∀ b : Nat → Int32, (∀ j, j < 128 → b j = 0) → post (p, o, f, a1, a2, b, a4)) : wpX_clearTable post (p, o, f, a1, a2, a3, a4) := by
  unfold wpX_clearTable
  exact pk_loop (fun n i s => wX_clearTable_2 post p o f n (nI i) a1 a2 s a4) (fun i s => ∀ j, j < i → s j = 0) 128 0 a3 (by omega) (fun j hj => absurd hj (by omega))
    (fun n s h => pk_le 128 128 (fun _ => H s h) (fun z => absurd z (by omega)))
    (fun n i s hi h hw => pk_le 128 i (fun z => absurd z (by omega)) (fun _ => ⟨pk_in i 128 hi, nm_e (nm_r (nI_1 i) (hw _ (dl_fill (nI_clamp (by omega)) h)))⟩))
theorem dl_root {post : Int32 → Prop} {p o f : Int32} (H : post 2) : wpX_rootUp post (p, o, f, a1, a2, a3, a4) 2 := by
  unfold wpX_rootUp
  exact ⟨2, br_f (by decide) (br_f (by decide) (nm_r (e' := 2) (by decide) (nm_r (e' := 1) (by decide) (br_f (by decide) (br_t (by decide) H)))))⟩
/-- the first cell asked is free, or holds the number -/
theorem dl_cell {post : Int32 → Prop} {p o f v : Int32} (n : Nat) (hn : n < 128) (hv : (v * 37) &&& 127 = nI n) (hb : a3 n = 0 ∨ a3 n = v) (H : post (nI n)) : wpX_cellOf post (p, o, f, a1, a2, a3, a4) v := by
  unfold wpX_cellOf
  refine nm_r hv ⟨1, br_f (by decide) ⟨pk_in n 128 hn, ?_⟩⟩
  rw [nI_clamp (by omega)]
  rcases hb with hb | hb
  · exact br_t hb H
  · exact br_c (fun _ => H) (fun _ => ⟨pk_in n 128 hn, br_t hb H⟩)
theorem dl_c37 : (nI 37).toNatClampNeg = 37 := nI_clamp (by decide)
theorem dl_c74 : (nI 74).toNatClampNeg = 74 := nI_clamp (by decide)
/-- the logarithm to the base 2, whose order is 2 -/
theorem dl_small {post : Int32 → St2 → Prop} {h : Int32} (u : dl_U h) (H : ∀ b c, post (h - 1) (3, 2, 1, a1, a2, b, c)) : wpX_smallLog post (3, 2, 1, a1, a2, a3, a4) 2 h 2 := by
  unfold wpX_smallLog
  refine dl_clear (fun b hb => dl_root ⟨3, ?_⟩)
  refine br_f (by decide) (dl_cell 37 (by decide) (by decide) (Or.inl (hb 37 (by decide))) ⟨pk_in 37 128 (by decide), br_t (by rw [dl_c37]; exact hb 37 (by decide)) ⟨pk_in 37 128 (by decide), nm_r (e' := upd b 37 1) (by rw [dl_c37]) ⟨pk_in 37 128 (by decide), nm_r (e' := upd a4 37 0) (by rw [dl_c37]) ?_⟩⟩⟩)
  unfold wX_smallLog_60
  refine dl_mul (r := 2) (by decide) (nm_r (e' := 1) (by decide) ?_)
  have q : upd b 37 1 74 = 0 := by rw [pk_un (by decide)]; exact hb 74 (by decide)
  refine br_f (by decide) (dl_cell 74 (by decide) (by decide) (Or.inl q) ⟨pk_in 74 128 (by decide), br_t (by rw [dl_c74]; exact q) ⟨pk_in 74 128 (by decide), nm_r (e' := upd (upd b 37 1) 74 2) (by rw [dl_c74]) ⟨pk_in 74 128 (by decide), nm_r (e' := upd (upd a4 37 0) 74 1) (by rw [dl_c74]) ?_⟩⟩⟩)
  unfold wX_smallLog_60
  refine dl_mul (r := 1) (by decide) (nm_r (e' := 2) (by decide) ?_)
  refine br_t (by decide) (dl_invert (Or.inl rfl) ⟨1, br_f (by decide) ?_⟩)
  have q1 : upd (upd b 37 1) 74 2 37 = 1 := by rw [pk_un (by decide), pk_us]
  have q2 : upd (upd b 37 1) 74 2 74 = 2 := by rw [pk_us]
  have s1 : upd (upd a4 37 0) 74 1 37 = 0 := by rw [pk_un (by decide), pk_us]
  have s2 : upd (upd a4 37 0) 74 1 74 = 1 := by rw [pk_us]
  rcases u with rfl | rfl
  · refine dl_cell 37 (by decide) (by decide) (Or.inr q1) ⟨pk_in 37 128 (by decide), br_t (by rw [dl_c37]; exact q1) ⟨pk_in 37 128 (by decide), ?_⟩⟩
    rw [dl_c37, s1]
    exact H _ _
  · refine dl_cell 74 (by decide) (by decide) (Or.inr q2) ⟨pk_in 74 128 (by decide), br_t (by rw [dl_c74]; exact q2) ⟨pk_in 74 128 (by decide), ?_⟩⟩
    rw [dl_c74, s2]
    exact H _ _
theorem dl_plog {post : Int32 → St2 → Prop} {h : Int32} (u : dl_U h) (H : ∀ b c, post (h - 1) (3, 2, 1, a1, a2, b, c)) : wpX_powerLog post (3, 2, 1, a1, a2, a3, a4) 2 h 2 1 := by
  unfold wpX_powerLog
  have e1 : h * 1 - h * 1 / 3 * 3 = h := by rcases u with rfl | rfl <;> decide
  have e2 : dl_P h 1 = h := by rcases u with rfl | rfl <;> decide
  have e3 : 0 + (h - 1) * 1 = h - 1 := by rcases u with rfl | rfl <;> decide
  refine ⟨1, br_t (by decide) (dl_pow (r := 2) (Or.inr rfl) (by decide) (dl_invert (Or.inr rfl) ⟨2, br_f (by decide) ?_⟩))⟩
  refine dl_pow (r := 1) (Or.inr rfl) (by decide) (dl_mul (r := h) e1 (dl_pow (r := h) u e2 (dl_small u (fun b c => ?_))))
  exact nm_r e3 (nm_e (br_f (by decide) ⟨by decide, nm_e (nm_r (e' := 1) (by decide) (br_t (by decide) (H b c)))⟩))
theorem dl_inv12 {post : Int32 → Prop} {p o f : Int32} (H : post 1) : wpX_invertBy post (p, o, f, a1, a2, a3, a4) 1 2 := by
  unfold wpX_invertBy
  exact br_f (by decide) ⟨by decide, nm_r (e' := 1) (by decide) ⟨2, br_f (by decide) (br_f (by decide) ⟨by decide, nm_r (e' := 2) (by decide) (nm_r (e' := 0) (by decide) (nm_r (e' := -2) (by decide) (nm_r (e' := 1) (by decide) (br_f (by decide) (br_t rfl (br_t (by decide) H))))))⟩)⟩⟩
theorem dl_join {post : Int32 → Prop} {p o f y : Int32} (hy : y = 0 ∨ y = 1) (H : post y) : wpX_join post (p, o, f, a1, a2, a3, a4) 0 1 y 2 := by
  unfold wpX_join
  rcases hy with rfl | rfl
  · refine dl_inv12 ⟨by decide, nm_r (e' := 0) (by decide) (br_t (by decide) ?_)⟩
    unfold wX_join_29 wpX_timesBy
    exact br_t (by decide) (nm_r (e' := 0) (by decide) ⟨by decide, ek_v (P := post) (by decide) H⟩)
  · refine dl_inv12 ⟨by decide, nm_r (e' := 1) (by decide) (br_t (by decide) ?_)⟩
    unfold wX_join_29 wpX_timesBy
    exact br_t (by decide) (nm_r (e' := 1) (by decide) ⟨by decide, ek_v (P := post) (by decide) H⟩)
/-- the logarithm by 3 -/
def dl_L (g h : Int32) : Int32 := if h = 1 then 0 else if g = 2 then 1 else -4
theorem dl_least {post : Int32 → St2 → Prop} {g h : Int32} (h1 : a1 0 = 2) (h2 : a2 0 = 1) (ug : dl_U g) (uh : dl_U h) (H : ∀ b c, post (dl_L g h) (3, 2, 1, a1, a2, b, c)) : wpX_leastLog post (3, 2, 1, a1, a2, a3, a4) g h := by
  unfold wpX_leastLog
  have k1 : a1 (0 : Int32).toNatClampNeg = 2 := by rw [sb_cl0]; exact h1
  refine dl_ord h1 h2 ug ?_
  rcases ug with rfl | rfl
  · rcases uh with rfl | rfl
    · refine dl_pow (r := 1) (Or.inl rfl) (by decide) (br_t rfl ⟨2, br_f (by decide) ⟨pk_in 0 5 (by decide), nm_r (e' := 2) k1 ⟨1, ?_⟩⟩⟩)
      exact br_f (by decide) ⟨by decide, br_f (by decide) (br_t (by decide) (nm_r (e' := 1) (by decide) (br_t (by decide) (H _ _))))⟩
    · exact dl_pow (r := 2) (Or.inr rfl) (by decide) (br_f (by decide) (H _ _))
  · have e1 : dl_P h 2 = 1 := by rcases uh with rfl | rfl <;> decide
    have e2 : dl_P h (2 / 2) = h := by rcases uh with rfl | rfl <;> decide
    have e3 : h - 1 = 0 ∨ h - 1 = 1 := by rcases uh with rfl | rfl <;> decide
    have e4 : dl_L 2 h = h - 1 := by rcases uh with rfl | rfl <;> decide
    rw [e4] at H
    refine dl_pow (r := 1) uh e1 (br_t rfl ⟨2, br_f (by decide) ⟨pk_in 0 5 (by decide), nm_r (e' := 2) k1 ⟨2, ?_⟩⟩⟩)
    refine br_f (by decide) ⟨by decide, br_t (by decide) (nm_r (e' := 2) (by decide) (nm_r (e' := 1) (by decide) (nm_r (e' := 1) (by decide) ?_)))⟩
    refine br_f (by decide) ⟨by decide, br_f (by decide) (br_f (by decide) ⟨by decide, ?_⟩)⟩
    refine dl_pow (r := 2) (Or.inr rfl) (by decide) ⟨by decide, dl_pow (r := h) uh e2 (dl_plog uh (fun b c => ?_))⟩
    exact dl_join e3 (nm_e (nm_r (e' := 1) (by decide) (br_t (by decide) (H b c))))
theorem dl_log {post : Int32 → St2 → Prop} {g h : Int32} (h1 : a1 0 = 2) (h2 : a2 0 = 1) (H0 : ¬ (dl_U g ∧ dl_U h) → post (-1) (3, 2, 1, a1, a2, a3, a4)) (H : dl_U g → dl_U h → ∀ b c, post (dl_L g h) (3, 2, 1, a1, a2, b, c)) : wpX_log post (3, 2, 1, a1, a2, a3, a4) g h := by
  unfold wpX_log
  exact dl_nu (fun ug => br_t rfl (dl_nu (fun uh => br_t rfl (dl_least h1 h2 ug uh (H ug uh))) (fun uh => br_f (by decide) (H0 (fun z => uh z.2))))) (fun ug => br_f (by decide) (H0 (fun z => ug z.1)))
end
end
section
section
variable {a1 a2 a3 a4 : Nat → Int32}
theorem dl_gcd2 {post : Int32 → Prop} {p o f : Int32} {m : Nat} (hm : m < 2 ^ 31) (H0 : m % 2 = 0 → post 2) (H1 : m % 2 = 1 → post 1) : wpX_gcd post (p, o, f, a1, a2, a3, a4) (nI m) 2 := by
  unfold wpX_gcd
  refine ⟨3, br_f (by decide) (br_f (by decide) ⟨by decide, nm_r (e' := nI (m % 2)) (pk_rem (d := 2) hm (by decide) (by decide)) (nm_r (e' := 1) (by decide) ?_)⟩)⟩
  rcases Nat.mod_two_eq_zero_or_one m with e | e
  · rw [e]
    exact br_f (by decide) (br_t rfl (H0 e))
  · rw [e]
    exact br_f (by decide) (br_f (by decide) ⟨by decide, nm_r (e' := 0) (by decide) (nm_r (e' := 2) (by decide) (br_f (by decide) (br_t rfl (H1 e))))⟩)
theorem dl_bad {post : Int32 → Prop} {o f h k : Int32} (H0 : dl_U h → ¬ k < 1 → k ≤ 1000000 → post 0) (H1 : ¬ (dl_U h ∧ ¬ k < 1 ∧ k ≤ 1000000) → post 1) : wpX_badRoot post (3, o, f, a1, a2, a3, a4) h k := by
  unfold wpX_badRoot
  exact dl_nu (fun u => br_t rfl (br_c (fun z => H1 (fun t => t.2.1 z)) (fun z => br_c (fun y => H0 u z y) (fun y => H1 (fun t => y t.2.2))))) (fun u => br_f (by decide) (H1 (fun t => u t.1)))
/-- how many roots by 3 -/
def dl_R (h k : Int32) : Int32 := if k &&& 1 = 1 then 1 else if h = 1 then 2 else 0
theorem dl_par {m : Nat} (hm : m < 2 ^ 31) : nI m &&& 1 = nI (m % 2) := pk_andN (by omega) 1 (by decide)
theorem dl_roots {post : Int32 → Prop} {f h k : Int32} (H1 : ¬ (dl_U h ∧ ¬ k < 1 ∧ k ≤ 1000000) → post (-1)) (H0 : dl_U h → ¬ k < 1 → k ≤ 1000000 → post (dl_R h k)) : wpX_roots post (3, 2, f, a1, a2, a3, a4) h k := by
  unfold wpX_roots
  refine dl_bad (fun u k1 k2 => br_t rfl ?_) (fun z => br_f (by decide) (H1 z))
  have H := H0 u k1 k2
  obtain ⟨m, hm, rfl⟩ := nI_of (x := k) (fun z => k1 (Int32.lt_trans z (by decide)))
  have e0 : dl_P h (2 / 2) = h := by rcases u with rfl | rfl <;> decide
  have e1 : dl_P h (2 / 1) = 1 := by rcases u with rfl | rfl <;> decide
  unfold dl_R at H
  rw [dl_par hm] at H
  refine dl_gcd2 hm (fun e => ?_) (fun e => ?_)
  · rw [e, if_neg (by decide)] at H
    refine br_t (by decide) ⟨by decide, dl_pow (r := h) u e0 (br_c (fun z => ?_) (fun z => ?_))⟩
    · rw [if_pos z] at H
      exact H
    · rw [if_neg z] at H
      exact H
  · rw [e, if_pos (by decide)] at H
    exact br_t (by decide) ⟨by decide, dl_pow (r := 1) u e1 (br_t rfl H)⟩
theorem dl_gen1 {post : Int32 → Prop} (h1 : a1 0 = 2) (H : post 0) : wpX_generates post (3, 2, 1, a1, a2, a3, a4) 1 := by
  unfold wpX_generates
  have k1 : a1 (0 : Int32).toNatClampNeg = 2 := by rw [sb_cl0]; exact h1
  refine ⟨1, br_f (by decide) ⟨pk_in 0 5 (by decide), ?_⟩⟩
  rw [k1]
  exact ⟨by decide, dl_pow (r := 1) (Or.inl rfl) (by decide) (br_t rfl H)⟩
theorem dl_gen2 {post : Int32 → Prop} (h1 : a1 0 = 2) (H : post 1) : wpX_generates post (3, 2, 1, a1, a2, a3, a4) 2 := by
  unfold wpX_generates
  have k1 : a1 (0 : Int32).toNatClampNeg = 2 := by rw [sb_cl0]; exact h1
  refine ⟨2, br_f (by decide) ⟨pk_in 0 5 (by decide), ?_⟩⟩
  rw [k1]
  exact ⟨by decide, dl_pow (r := 2) (Or.inr rfl) (by decide) (br_f (by decide) (nm_r (e' := 1) (by decide) (br_t (by decide) H)))⟩
theorem dl_gener {post : Int32 → Prop} (h1 : a1 0 = 2) (H : post 2) : wpX_generator post (3, 2, 1, a1, a2, a3, a4) := by
  unfold wpX_generator
  exact ⟨2, br_f (by decide) (br_f (by decide) (dl_gen1 h1 (br_t rfl (nm_r (e' := 2) (by decide) (br_f (by decide) (br_f (by decide) (dl_gen2 h1 (br_f (by decide) H))))))))⟩
theorem dl_g01 {post : Int32 → Prop} {p o f : Int32} (H : post 1) : wpX_gcd post (p, o, f, a1, a2, a3, a4) 0 1 := by
  unfold wpX_gcd
  exact ⟨2, br_f (by decide) (br_f (by decide) ⟨by decide, nm_r (e' := 0) (by decide) (nm_r (e' := 1) (by decide) (br_f (by decide) (br_t rfl H)))⟩)⟩
theorem dl_g02 {post : Int32 → Prop} {p o f : Int32} (H : post 2) : wpX_gcd post (p, o, f, a1, a2, a3, a4) 0 2 := by
  unfold wpX_gcd
  exact ⟨2, br_f (by decide) (br_f (by decide) ⟨by decide, nm_r (e' := 0) (by decide) (nm_r (e' := 1) (by decide) (br_f (by decide) (br_t rfl H)))⟩)⟩
theorem dl_g12 {post : Int32 → Prop} {p o f : Int32} (H : post 1) : wpX_gcd post (p, o, f, a1, a2, a3, a4) 1 2 :=
  dl_gcd2 (m := 1) (by decide) (fun z => absurd z (by decide)) (fun _ => H)
/-- the least unit of an order by 3 -/
def dl_O (n : Int32) : Int32 := if 1 ≤ n then (if n = 1 then 1 else if n = 2 then 2 else -4) else -1
theorem dl_le12 {n : Int32} (h1 : 1 ≤ n) (h2 : ¬ 2 < n) : n = 1 ∨ n = 2 := by
  refine dl_12 (fun z => ?_) ?_
  · rw [Int32.lt_iff_toInt_lt] at z
    rw [Int32.le_iff_toInt_le] at h1
    omega
  · rw [Int32.lt_iff_toInt_lt] at h2 ⊢
    have t2 : (2 : Int32).toInt = 2 := by decide
    have t3 : (3 : Int32).toInt = 3 := by decide
    omega
theorem dl_unit {post : Int32 → Prop} {n : Int32} (h1 : a1 0 = 2) (H : post (dl_O n)) : wpX_unitOfOrder post (3, 2, 1, a1, a2, a3, a4) n := by
  unfold wpX_unitOfOrder
  refine br_c (fun c => br_c (fun c2 => ?_) (fun c2 => ?_)) (fun c => ?_)
  · have n1 : ¬ n = 1 := fun z => absurd (z ▸ c2) (by decide)
    have n2 : ¬ n = 2 := fun z => absurd (z ▸ c2) (by decide)
    rw [dl_O, if_pos c, if_neg n1, if_neg n2] at H
    exact H
  · rcases dl_le12 c c2 with rfl | rfl
    · refine ⟨by decide, br_t (by decide) (dl_gener h1 ⟨by decide, dl_pow (r := 1) (Or.inr rfl) (by decide) ⟨2, ?_⟩⟩)⟩
      refine br_f (by decide) (br_f (by decide) (dl_g01 (br_t rfl (br_f (by decide) ?_))))
      unfold wX_unitOfOrder_96
      exact dl_mul (r := 1) (by decide) (nm_r (e' := 1) (by decide) (br_t (by decide) H))
    · refine ⟨by decide, br_t (by decide) (dl_gener h1 ⟨by decide, dl_pow (r := 2) (Or.inr rfl) (by decide) ⟨3, ?_⟩⟩)⟩
      refine br_f (by decide) (br_f (by decide) (dl_g02 (br_f (by decide) ?_)))
      unfold wX_unitOfOrder_96
      refine dl_mul (r := 2) (by decide) (nm_r (e' := 1) (by decide) ?_)
      refine br_f (by decide) (br_f (by decide) (dl_g12 (br_t rfl (br_f (by decide) ?_))))
      unfold wX_unitOfOrder_96
      exact dl_mul (r := 1) (by decide) (nm_r (e' := 2) (by decide) (br_t (by decide) H))
  · rw [dl_O, if_neg c] at H
    exact H
end
end
section
section
variable {a1 a2 a3 a4 : Nat → Int32}
theorem dl_fac112 {post : St2 → Prop} {J : Int32 → Int32 → Int32 → (Nat → Int32) → (Nat → Int32) → (Nat → Int32) → (Nat → Int32) → Prop} {x1 x2 x2' p o : Int32} {k : Nat} (e : x2 + 1 = x2') (H : J x1 x2' (nI (k + 1)) a1 a2 a3 a4) : wX_factor_112 post J x1 x2 p o (nI k) a1 a2 a3 a4 :=
  nm_r (nI_1 k) (nm_r e H)
/-- the inner loop of factor ends, whatever it divides -/
theorem dl_fac70 {post : St2 → Prop} {J : Int32 → Int32 → Int32 → (Nat → Int32) → (Nat → Int32) → (Nat → Int32) → (Nat → Int32) → Prop} {x1 x2 x2' p o : Int32} {k : Nat} (hx : ¬ x2 = 0) (hk : k < 5) (e : x2 + 1 = x2') (H : ∀ y b, J y x2' (nI (k + 1)) a1 b a3 a4) : ∃ n, wX_factor_70 post J x2 p o (nI k) n x1 0 a1 a2 a3 a4 :=
  pk_loop (σ := Int32 × (Nat → Int32)) (fun n i s => wX_factor_70 post J x2 p o (nI k) n s.1 (nI i) a1 s.2 a3 a4) (fun _ _ => True) 12 0 (x1, a2) (by omega) trivial
    (fun n s _ => pk_le 12 12 (fun _ => dl_fac112 e (H _ _)) (fun z => absurd z (by omega)))
    (fun n i s hi _ hw => pk_le 12 i (fun z => absurd z (by omega)) (fun _ => ⟨hx, br_c (fun _ => ⟨hx, nm_e ⟨pk_in k 5 hk, pk_in k 5 hk, nm_e (nm_r (nI_1 i) (hw (_, _) trivial))⟩⟩) (fun _ => dl_fac112 e (H _ _))⟩))
/-- factor ends, whatever the modulus -/
theorem dl_fac {post : St2 → Prop} {p o f : Int32} (H : ∀ o' f' b1 b2, post (p, o', f', b1, b2, a3, a4)) : wpX_factor post (p, o, f, a1, a2, a3, a4) := by
  unfold wpX_factor
  refine nm_e ?_
  refine pk_loop (σ := Int32 × Int32 × (Nat → Int32) × (Nat → Int32)) (fun n i s => wX_factor_22 post p (p - 1) n s.1 (nI i) s.2.1 s.2.2.1 s.2.2.2 a3 a4) (fun i s => 2 ≤ i ∧ ∃ k, k ≤ 5 ∧ s.2.1 = nI k) 2040 2 (p - 1, 0, a1, a2) (by omega) ⟨by omega, 0, by omega, rfl⟩ ?_ ?_
  · intro n s _
    exact pk_lt 2039 2040 (fun _ => H _ _ _ _) (fun z => absurd z (by omega))
  · intro n i s hi h hw
    obtain ⟨x1, y, b1, b2⟩ := s
    obtain ⟨h2, k, hk, e⟩ := h
    dsimp only at e
    subst e
    refine pk_lt 2039 i (fun z => absurd z (by omega)) (fun _ => br_c (fun _ => H _ _ _ _) (fun _ => ⟨nI_ne0 (by omega) (by omega), br_c (fun _ => ?_) (fun _ => ?_)⟩))
    · refine pk_le 5 k (fun _ => ?_) (fun z => ⟨pk_in k 5 z, nm_e ⟨pk_in k 5 z, nm_e ?_⟩⟩)
      · exact nm_r (nI_1 i) (hw (x1, nI k, b1, b2) ⟨by omega, k, hk, rfl⟩)
      · exact dl_fac70 (nI_ne0 (by omega) (by omega)) z (nI_1 i) (fun y b => hw (y, nI (k + 1), _, b) ⟨by omega, k + 1, by omega, rfl⟩)
    · exact nm_r (nI_1 i) (hw (x1, nI k, b1, b2) ⟨by omega, k, hk, rfl⟩)
/-- factor at 3: one prime, 2, once -/
theorem dl_fac3 {post : St2 → Prop} {o f : Int32} (H : post (3, 2, 1, upd a1 0 2, upd (upd a2 0 0) 0 1, a3, a4)) : wpX_factor post (3, o, f, a1, a2, a3, a4) := by
  unfold wpX_factor
  refine nm_r (e' := 2) (by decide) ⟨2, br_f (by decide) (br_f (by decide) ⟨by decide, br_t (by decide) (br_f (by decide) ⟨pk_in 0 5 (by decide), nm_r (e' := upd a1 0 2) (by rw [sb_cl0]) ⟨pk_in 0 5 (by decide), nm_r (e' := upd a2 0 0) (by rw [sb_cl0]) ⟨2, ?_⟩⟩⟩)⟩)⟩
  refine br_f (by decide) ⟨by decide, br_t (by decide) ⟨by decide, nm_r (e' := 1) (by decide) ⟨pk_in 0 5 (by decide), pk_in 0 5 (by decide), nm_r (e' := upd (upd a2 0 0) 0 1) (by rw [sb_cl0, pk_us]; rfl) (nm_r (e' := 1) (by decide) ?_)⟩⟩⟩
  exact br_f (by decide) ⟨by decide, br_f (by decide) (nm_r (e' := 1) (by decide) (nm_r (e' := 3) (by decide) (br_f (by decide) (br_t (by decide) H))))⟩
/-- isPrime ends -/
theorem dl_isp {post : Int32 → Prop} {p o f n : Int32} (H0 : post 0) (H1 : post 1) : wpX_isPrime post (p, o, f, a1, a2, a3, a4) n := by
  unfold wpX_isPrime
  refine br_c (fun _ => ?_) (fun _ => H0)
  exact pk_loop (σ := Unit) (fun k i _ => wX_isPrime_9 post n p o f a1 a2 a3 a4 k (nI i)) (fun i _ => 2 ≤ i) 50 2 () (by omega) (by omega)
    (fun k _ _ => br_c (fun _ => H1) (fun _ => pk_le 50 50 (fun _ => H1) (fun z => absurd z (by omega))))
    (fun k i _ hi h hw => br_c (fun _ => H1) (fun _ => pk_le 50 i (fun z => absurd z (by omega)) (fun _ => ⟨nI_ne0 (by omega) (by omega), br_c (fun _ => H0) (fun _ => nm_r (nI_1 i) (hw () (by omega)))⟩)))
theorem dl_ispE {post : Int32 → Prop} {p o f : Int32} {m : Nat} (hm : m < 2 ^ 31) (h4 : 4 ≤ m) (e : m % 2 = 0) (H0 : post 0) : wpX_isPrime post (p, o, f, a1, a2, a3, a4) (nI m) := by
  unfold wpX_isPrime
  refine pk_le 2 m (fun _ => ⟨1, ?_⟩) (fun z => absurd z (by omega))
  have r : nI m - nI m / 2 * 2 = 0 := (pk_rem (d := 2) hm (by decide) (by decide)).trans (by rw [e]; rfl)
  exact pk_lt m 4 (fun z => absurd z (by omega)) (fun _ => br_f (by decide) ⟨by decide, br_t r H0⟩)
def dl_five (n : Int32) : Prop := n = 3 ∨ n = 5 ∨ n = 7 ∨ n = 11 ∨ n = 13
theorem dl_ispP {post : Int32 → Prop} {p o f n : Int32} (h : dl_five n) (H1 : post 1) : wpX_isPrime post (p, o, f, a1, a2, a3, a4) n := by
  unfold wpX_isPrime
  rcases h with rfl | rfl | rfl | rfl | rfl
  · exact br_t (by decide) ⟨1, br_t (by decide) H1⟩
  · exact br_t (by decide) ⟨2, br_f (by decide) (br_f (by decide) ⟨by decide, br_f (by decide) (nm_r (e' := 3) (by decide) (br_t (by decide) H1))⟩)⟩
  · exact br_t (by decide) ⟨2, br_f (by decide) (br_f (by decide) ⟨by decide, br_f (by decide) (nm_r (e' := 3) (by decide) (br_t (by decide) H1))⟩)⟩
  · exact br_t (by decide) ⟨3, br_f (by decide) (br_f (by decide) ⟨by decide, br_f (by decide) (nm_r (e' := 3) (by decide) (br_f (by decide) (br_f (by decide) ⟨by decide, br_f (by decide) (nm_r (e' := 4) (by decide) (br_t (by decide) H1))⟩)))⟩)⟩
  · exact br_t (by decide) ⟨3, br_f (by decide) (br_f (by decide) ⟨by decide, br_f (by decide) (nm_r (e' := 3) (by decide) (br_f (by decide) (br_f (by decide) ⟨by decide, br_f (by decide) (nm_r (e' := 4) (by decide) (br_t (by decide) H1))⟩)))⟩)⟩
/-- what the law asks of prime -/
def dl_S (n r : Int32) : Prop := (n < 3 → r = -1) ∧ (2039 < n → r = -1) ∧ (n &&& 1 = 0 → r = -1) ∧ (dl_five n → r = 3)
theorem dl_p24 {post : Int32 → St2 → Prop} {n o f : Int32} (h5 : ¬ dl_five n) (H : ∀ r u, dl_S n r → post r u) : wX_prime_24 post n 3 o f a1 a2 a3 a4 := by
  unfold wX_prime_24 wX_prime_25
  exact br_t rfl (H _ _ ⟨fun _ => rfl, fun _ => rfl, fun _ => rfl, fun z => absurd z h5⟩)
theorem dl_p25 {post : Int32 → St2 → Prop} {n o f : Int32} (h1 : ¬ n < 3) (h2 : ¬ 2039 < n) (h3 : ¬ n &&& 1 = 0) (H : ∀ r u, dl_S n r → post r u) : wX_prime_25 post n 1 3 o f a1 a2 a3 a4 := by
  unfold wX_prime_25
  exact br_f (by decide) (dl_fac (fun _ _ _ _ => H _ _ ⟨fun z => absurd z h1, fun z => absurd z h2, fun z => absurd z h3, fun _ => rfl⟩))
theorem dl_prime {post : Int32 → St2 → Prop} {n o f : Int32} (H : ∀ r u, dl_S n r → post r u) : wpX_prime post (3, o, f, a1, a2, a3, a4) n := by
  unfold wpX_prime
  refine br_c (fun c => dl_p24 ?_ H) (fun c => br_c (fun c2 => dl_p24 ?_ H) (fun c2 => ?_))
  · intro z
    rcases z with rfl | rfl | rfl | rfl | rfl <;> exact absurd c (by decide)
  · intro z
    rcases z with rfl | rfl | rfl | rfl | rfl <;> exact absurd c2 (by decide)
  · by_cases h5 : dl_five n
    · refine dl_ispP h5 (br_f (by decide) (dl_p25 c c2 ?_ H))
      rcases h5 with rfl | rfl | rfl | rfl | rfl <;> decide
    · by_cases h3 : n &&& 1 = 0
      · obtain ⟨m, hm, rfl⟩ := nI_of (x := n) (fun z => c (Int32.lt_trans z (by decide)))
        have m3 : ¬ m < 3 := fun z => c ((nI_ltI hm (b := 3) (by decide)).mpr z)
        rw [dl_par hm] at h3
        have e : m % 2 = 0 := (nI_eq (b := 0) (by omega) (by decide)).mp h3
        exact dl_ispE hm (by omega) e (br_t rfl (dl_p24 h5 H))
      · exact dl_isp (br_t rfl (dl_p24 h5 H)) (br_f (by decide) (dl_p25 c c2 h3 H))
end
end
section
section
variable {post : Int32 → St0 → Prop} {mc ms kc ks : Nat} {x0 x1 x2 x3 x4 x6 x7 x8 x9 x10 x11 x12 x13 x14 z0 z1 : Int32}
/-- an answer that is -1 outside its range -/
def dl_F (A B C : Prop) (v r : Int32) : Prop := (¬ A → r = -1) ∧ (B → r = -1) ∧ (¬ C → r = -1) ∧ (A → ¬ B → C → r = v)
/-- the answer of log -/
def dl_G (g h r : Int32) : Prop := (¬ dl_U g → r = -1) ∧ (¬ dl_U h → r = -1) ∧ (dl_U g → dl_U h → r = dl_L g h)
/-- a flag: z says whether A -/
def dl_fl (z : Int32) (A : Prop) : Prop := (z = 0 → ¬ A) ∧ (¬ z = 0 → A)
theorem dl_335 (h : x11 = -1) (H : post 1 ()) : wL_lawOf_335 post mc ms x11 kc ks := br_t h H
theorem dl_311 (hz : z1 = z0) (hS : dl_S x4 x11) (h14 : ¬ x14 = 0 → dl_five x4) (H : post 1 ()) : wL_lawOf_311 post mc ms x4 x11 x14 z0 z1 kc ks := by
  unfold wL_lawOf_311
  exact br_t hz (br_c (fun c => dl_335 (hS.1 c) H) (fun _ => br_c (fun c => dl_335 (hS.2.1 c) H) (fun _ => br_c (fun c => dl_335 (hS.2.2.1 c) H) (fun _ => br_c (fun _ => H) (fun c => br_t (hS.2.2.2 (h14 c)) H)))))
theorem dl_274 (hz : z1 = z0) (h10 : x10 = dl_O x4) (hS : dl_S x4 x11) (h14 : ¬ x14 = 0 → dl_five x4) (H : post 1 ()) : wL_lawOf_274 post mc ms x4 x10 x11 x14 z0 z1 kc ks := by
  unfold wL_lawOf_274
  unfold dl_O at h10
  exact br_t hz (br_c (fun c => br_c (fun c1 => dl_311 (by rw [h10, if_pos c, if_pos c1]) hS h14 H) (fun c1 => br_c (fun c2 => dl_311 (by rw [h10, if_pos c, if_neg c1, if_pos c2]) hS h14 H) (fun c2 => dl_311 (by rw [h10, if_pos c, if_neg c1, if_neg c2]) hS h14 H))) (fun c => dl_311 (by rw [h10, if_neg c]) hS h14 H))
theorem dl_228 (hz : z1 = z0) (hh : dl_fl x13 (dl_U x1)) (h9 : dl_F (dl_U x1) (x3 < 1) (x3 ≤ 1000000) (dl_R x1 x3) x9) (K : ∀ z, x9 = z → wL_lawOf_274 post mc ms x4 x10 x11 x14 z x9 kc ks) : wL_lawOf_228 post mc ms x1 x3 x4 x9 x10 x11 x13 x14 z0 z1 kc ks := by
  unfold wL_lawOf_228 wL_lawOf_249
  refine br_t hz (br_c (fun c => K _ (h9.1 (hh.1 c))) (fun c => br_c (fun c1 => K _ (h9.2.1 c1)) (fun c1 => br_c (fun c2 => ?_) (fun c2 => K _ (h9.2.2.1 c2)))))
  have e := h9.2.2.2 (hh.2 c) c1 c2
  unfold dl_R at e
  exact br_c (fun d => K _ (by rw [e, if_pos d])) (fun d => br_c (fun d1 => K _ (by rw [e, if_neg d, if_pos d1])) (fun d1 => K _ (by rw [e, if_neg d, if_neg d1])))
theorem dl_189 (hz : z1 = z0) (hg : dl_fl x12 (dl_U x0)) (hh : dl_fl x13 (dl_U x1)) (h8 : dl_G x0 x1 x8) (K : ∀ z, x8 = z → wL_lawOf_228 post mc ms x1 x3 x4 x9 x10 x11 x13 x14 z x8 kc ks) : wL_lawOf_189 post mc ms x0 x1 x3 x4 x8 x9 x10 x11 x12 x13 x14 z0 z1 kc ks := by
  unfold wL_lawOf_189 wL_lawOf_204
  refine br_t hz (br_c (fun c => K _ (h8.1 (hg.1 c))) (fun c => br_c (fun c1 => K _ (h8.2.1 (hh.1 c1))) (fun c1 => ?_)))
  have e := h8.2.2 (hg.2 c) (hh.2 c1)
  unfold dl_L at e
  exact br_c (fun d => K _ (by rw [e, if_pos d])) (fun d => br_c (fun d1 => K _ (by rw [e, if_neg d, if_pos d1])) (fun d1 => K _ (by rw [e, if_neg d, if_neg d1])))
theorem dl_174 (hz : z1 = z0) (hg : dl_fl x12 (dl_U x0)) (h7 : ¬ dl_U x0 → x7 = -1) (h7' : dl_U x0 → x7 = x0) (K : ∀ z, x7 = z → wL_lawOf_189 post mc ms x0 x1 x3 x4 x8 x9 x10 x11 x12 x13 x14 z x7 kc ks) : wL_lawOf_174 post mc ms x0 x1 x3 x4 x7 x8 x9 x10 x11 x12 x13 x14 z0 z1 kc ks := by
  unfold wL_lawOf_174
  exact br_t hz (br_c (fun c => K _ (h7 (hg.1 c))) (fun c => K _ (h7' (hg.2 c))))
theorem dl_134 (hg : dl_fl x12 (dl_U x0)) (h6 : dl_F (dl_U x0) (x2 < 0) (x2 ≤ 1000000) (dl_P x0 x2) x6) (K : ∀ z, x6 = z → wL_lawOf_174 post mc ms x0 x1 x3 x4 x7 x8 x9 x10 x11 x12 x13 z0 z x6 kc ks) : wL_lawOf_134 post mc ms x0 x1 x2 x3 x4 x6 x7 x8 x9 x10 x11 x12 x13 z0 kc ks := by
  unfold wL_lawOf_134 wL_lawOf_153 wL_lawOf_173
  refine br_c (fun c => K _ (h6.1 (hg.1 c))) (fun c => br_c (fun c1 => K _ (h6.2.1 c1)) (fun c1 => br_c (fun c2 => ?_) (fun c2 => K _ (h6.2.2.1 c2))))
  have e := h6.2.2.2 (hg.2 c) c1 c2
  unfold dl_P at e
  exact br_c (fun d => br_c (fun d1 => K _ (by rw [e, if_pos ⟨d, d1⟩])) (fun d1 => K _ (by rw [e, if_neg (fun t => d1 t.2)]))) (fun d => K _ (by rw [e, if_neg (fun t => d t.1)]))
theorem dl_94 (K : ∀ z, (¬ z = 0 → dl_five x4) → wL_lawOf_134 post mc ms x0 x1 x2 x3 x4 x6 x7 x8 x9 x10 x11 x12 z0 z kc ks) : wL_lawOf_94 post mc ms x0 x1 x2 x3 x4 x6 x7 x8 x9 x10 x11 x12 z0 kc ks := by
  unfold wL_lawOf_94 wL_lawOf_129
  exact br_c (fun c => K 1 (fun _ => Or.inl c)) (fun _ => br_c (fun c => K 1 (fun _ => Or.inr (Or.inl c))) (fun _ => br_c (fun c => K 1 (fun _ => Or.inr (Or.inr (Or.inl c)))) (fun _ => br_c (fun c => K 1 (fun _ => Or.inr (Or.inr (Or.inr (Or.inl c))))) (fun _ => br_c (fun c => K 1 (fun _ => Or.inr (Or.inr (Or.inr (Or.inr c))))) (fun _ => K 0 (fun z => absurd rfl z))))))
theorem dl_flT {A : Prop} (h : A) : dl_fl 1 A := ⟨fun z => absurd z (by decide), fun _ => h⟩
theorem dl_flF {A : Prop} (h : ¬ A) : dl_fl 0 A := ⟨fun _ => h, fun z => absurd rfl z⟩
theorem dl_77 (K : ∀ z, dl_fl z (dl_U x1) → wL_lawOf_94 post mc ms x0 x1 x2 x3 x4 x6 x7 x8 x9 x10 x11 z0 z kc ks) : wL_lawOf_77 post mc ms x0 x1 x2 x3 x4 x6 x7 x8 x9 x10 x11 z0 kc ks := by
  unfold wL_lawOf_77 wL_lawOf_89
  exact br_c (fun c => K 1 (dl_flT (Or.inl c))) (fun c => br_c (fun c1 => K 1 (dl_flT (Or.inr c1))) (fun c1 => K 0 (dl_flF (fun t => t.elim c c1))))
/-- the law's last expression, over the six answers -/
theorem dl_fin (h6 : dl_F (dl_U x0) (x2 < 0) (x2 ≤ 1000000) (dl_P x0 x2) x6) (h7 : ¬ dl_U x0 → x7 = -1) (h7' : dl_U x0 → x7 = x0) (h8 : dl_G x0 x1 x8) (h9 : dl_F (dl_U x1) (x3 < 1) (x3 ≤ 1000000) (dl_R x1 x3) x9) (h10 : x10 = dl_O x4) (hS : dl_S x4 x11) (H : post 1 ()) (hg : dl_fl z0 (dl_U x0)) : wL_lawOf_77 post mc ms x0 x1 x2 x3 x4 x6 x7 x8 x9 x10 x11 z0 kc ks :=
  dl_77 (fun _ hh => dl_94 (fun _ h14 => dl_134 hg h6 (fun _ e6 => dl_174 e6 hg h7 h7' (fun _ e7 => dl_189 e7 hg hh h8 (fun _ e8 => dl_228 e8 hh h9 (fun _ e9 => dl_274 e9 h10 hS h14 H))))))
end
section
variable {a1 a2 a3 a4 : Nat → Int32} {o f : Int32}
theorem dl_powerF {post : Int32 → Prop} {g x : Int32} (H : ∀ r, dl_F (dl_U g) (x < 0) (x ≤ 1000000) (dl_P g x) r → post r) : wpX_power post (3, o, f, a1, a2, a3, a4) g x :=
  dl_power (fun u => H _ ⟨fun _ => rfl, fun _ => rfl, fun _ => rfl, fun a => absurd a u⟩) (fun _ l => H _ ⟨fun _ => rfl, fun _ => rfl, fun _ => rfl, fun _ b => absurd l b⟩)
    (fun u l c => H _ ⟨fun z => absurd u z, fun z => absurd z l, fun z => absurd c z, fun _ _ _ => rfl⟩) (fun _ _ c => H _ ⟨fun _ => rfl, fun _ => rfl, fun _ => rfl, fun _ _ z => absurd z c⟩)
theorem dl_invF {post : Int32 → Prop} {g : Int32} (H : ∀ r, (¬ dl_U g → r = -1) → (dl_U g → r = g) → post r) : wpX_inverse post (3, o, f, a1, a2, a3, a4) g :=
  dl_inverse (fun u => H _ (fun _ => rfl) (fun z => absurd z u)) (fun u => H _ (fun z => absurd u z) (fun _ => rfl))
theorem dl_logF {post : Int32 → St2 → Prop} {g h : Int32} (h1 : a1 0 = 2) (h2 : a2 0 = 1) (H : ∀ r b c, dl_G g h r → post r (3, 2, 1, a1, a2, b, c)) : wpX_log post (3, 2, 1, a1, a2, a3, a4) g h :=
  dl_log h1 h2 (fun u => H _ _ _ ⟨fun _ => rfl, fun _ => rfl, fun a b => absurd ⟨a, b⟩ u⟩) (fun ug uh b c => H _ _ _ ⟨fun z => absurd ug z, fun z => absurd uh z, fun _ _ => rfl⟩)
theorem dl_rootF {post : Int32 → Prop} {h k : Int32} (H : ∀ r, dl_F (dl_U h) (k < 1) (k ≤ 1000000) (dl_R h k) r → post r) : wpX_roots post (3, 2, f, a1, a2, a3, a4) h k :=
  dl_roots (fun u => H _ ⟨fun _ => rfl, fun _ => rfl, fun _ => rfl, fun a b c => absurd ⟨a, b, c⟩ u⟩) (fun u l c => H _ ⟨fun z => absurd u z, fun z => absurd z l, fun z => absurd c z, fun _ _ _ => rfl⟩)
theorem dl_lawOf {post : Int32 → St0 → Prop} {g h x k n : Int32} (H : post 1 ()) : wpL_lawOf post 5 273 () g h x k n := by
  unfold wpL_lawOf
  refine ⟨by decide, by decide, 4, 266, by decide, by decide, ?_⟩
  unfold wpX_init
  refine ⟨by decide, by decide, by decide, by decide, by decide, by decide, by decide, by decide, dl_fac3 ?_⟩
  refine dl_powerF (fun r1 f1 => dl_invF (fun r2 f2 f2' => dl_logF pk_us pk_us (fun r3 b c f3 => dl_rootF (fun r4 f4 => dl_unit pk_us (dl_prime (fun r6 u f6 => ?_))))))
  obtain ⟨p', o', f', b1, b2, b3, b4⟩ := u
  refine br_c (fun c1 => ?_) (fun c1 => br_c (fun c2 => ?_) (fun c2 => ?_))
  · unfold wL_lawOf_72
    exact dl_fin f1 f2 f2' f3 f4 rfl f6 H (dl_flT (Or.inl c1))
  · unfold wL_lawOf_72
    exact dl_fin f1 f2 f2' f3 f4 rfl f6 H (dl_flT (Or.inr c2))
  · exact dl_fin f1 f2 f2' f3 f4 rfl f6 H (dl_flF (fun t => t.elim c1 c2))
theorem dl_at {post : Int32 → Prop} {L : Nat} {xs : Nat → Int32} (i : Nat) (hL : L ≤ 5) (hi : i < 5) (H : ∀ v, post v) : wpL_cellAt post L xs () (nI i) :=
  pk_le L i (fun _ => H _) (fun z => ⟨pk_in i L z, H _⟩)
end
end
section
theorem i_vc (xs : Nat → Int32) (L : Nat) (hL : L ≤ 5) : wpL_law (fun r => r = 1) L xs := by
  unfold wpL_law
  exact dl_at 0 hL (by decide) (fun _ => dl_at 1 hL (by decide) (fun _ => dl_at 2 hL (by decide) (fun _ => dl_at 3 hL (by decide) (fun _ => dl_at 4 hL (by decide) (fun _ => ⟨5, 273, by decide, by decide, dl_lawOf rfl⟩)))))
end
