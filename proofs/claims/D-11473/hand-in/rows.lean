section
/-- how many processes: 1 to 4 -/
def sy_P (P : Nat) : Prop := P = 1 ∨ P = 2 ∨ P = 3 ∨ P = 4
/-- the end of the codes, and the code of the start -/
def sy_lim (P : Nat) : Nat := 3 * 3 ^ P * (P + 1)
def sy_start (P : Nat) : Nat := 3 * 3 ^ P * P
/-- classOf's loop over naturals: n turns are left, T the token's holder, p the turn, x what is left of the code, h the holder's place, o1 and o2 the others in place 1 and 2 -/
def sy_cl : Nat → Nat → Nat → Nat → Nat → Nat → Nat → Nat
  | 0, _, _, x, h, o1, o2 => ((x % 3 * 4 + h) * 5 + o1) * 5 + o2
  | n + 1, T, p, x, h, o1, o2 => if p = T then sy_cl n T (p + 1) (x / 3) (x % 3) o1 o2 else sy_cl n T (p + 1) (x / 3) h (if x % 3 = 1 then o1 + 1 else o1) (if x % 3 = 2 then o2 + 1 else o2)
def sy_cls (P k : Nat) : Nat := sy_cl P (k / (3 * 3 ^ P)) 0 k 3 0 0
theorem sy_cls1 {k : Nat} (h : k < 18) : sy_cls 1 k < 300 ∧ (sy_cls 1 k = 75 ↔ k = 9) :=
  co_dec (N := 18) (P := fun k => sy_cls 1 k < 300 ∧ (sy_cls 1 k = 75 ↔ k = 9)) (by decide +kernel) h
theorem sy_cls2 {k : Nat} (h : k < 81) : sy_cls 2 k < 300 ∧ (sy_cls 2 k = 75 ↔ k = 54) :=
  co_dec (N := 81) (P := fun k => sy_cls 2 k < 300 ∧ (sy_cls 2 k = 75 ↔ k = 54)) (by decide +kernel) h
theorem sy_cls3 {k : Nat} (h : k < 324) : sy_cls 3 k < 300 ∧ (sy_cls 3 k = 75 ↔ k = 243) :=
  co_dec (N := 324) (P := fun k => sy_cls 3 k < 300 ∧ (sy_cls 3 k = 75 ↔ k = 243)) (by decide +kernel) h
theorem sy_cls4 {k : Nat} (h : k < 1215) : sy_cls 4 k < 300 ∧ (sy_cls 4 k = 75 ↔ k = 972) :=
  co_dec (N := 1215) (P := fun k => sy_cls 4 k < 300 ∧ (sy_cls 4 k = 75 ↔ k = 972)) (by decide +kernel) h
theorem sy_clsP {P k : Nat} (hP : sy_P P) (h : k < sy_lim P) : sy_cls P k < 300 ∧ (sy_cls P k = 75 ↔ k = sy_start P) := by
  rcases hP with rfl | rfl | rfl | rfl
  · exact sy_cls1 h
  · exact sy_cls2 h
  · exact sy_cls3 h
  · exact sy_cls4 h
theorem sy_limP {P : Nat} (hP : sy_P P) : sy_start P < sy_lim P ∧ sy_lim P ≤ 1215 ∧ 3 * 3 ^ P ≤ 243 ∧ 0 < 3 * 3 ^ P ∧ 1 ≤ P ∧ P ≤ 4 := by
  rcases hP with rfl | rfl | rfl | rfl <;> decide
end
section
section
variable {sh ho pr rc ac kn ex : Int32} {a1 a2 a3 a4 a5 a6 a7 a8 a9 a10 a11 a12 a13 a14 : Nat → Int32}
/-- the others in kind 75: all in place 0 -/
def sy_O (pr : Int32) (b : Nat → Int32) : Prop := b 0 = pr ∧ b 1 = 0 ∧ b 2 = 0
/-- depths and queue behind the exploring: kind 75 alone -/
def sy_D (D Q : Nat → Int32) : Prop := Q 0 = 75 ∧ D 75 = 0 ∧ ∀ j, j < 300 → j ≠ 75 → D j = -1
theorem sy_c75 : (75 : Int32).toNatClampNeg = 75 := by decide +kernel
theorem sy_c0 : (0 : Int32).toNatClampNeg = 0 := by decide +kernel
theorem sy_in75 : vp_in 75 300 := pk_in 75 300 (by omega)
theorem sy_in0 {n : Nat} (h : 0 < n) (hn : n < 2 ^ 31 := by omega) : vp_in 0 n := pk_in 0 n h
theorem sy_Oload (pr : Int32) (a : Nat → Int32) : sy_O pr (upd (upd (upd a 2 0) 1 0) 0 ((pr - (upd (upd a 2 0) 1 0 1)) - (upd (upd a 2 0) 1 0 2))) := by
  refine ⟨?_, ?_, ?_⟩
  · rw [pk_us, pk_us, pk_un (by decide), pk_us]
    simp
  · rw [pk_un (by decide), pk_us]
  · rw [pk_un (by decide), pk_un (by decide), pk_us]
theorem sy_load {post : St2 → Prop} (H : ∀ b, sy_O pr b → post (0, 3, pr, rc, ac, kn, ex, a1, a2, a3, a4, a5, a6, a7, a8, a9, a10, a11, a12, a13, b)) : wpX_load post (sh, ho, pr, rc, ac, kn, ex, a1, a2, a3, a4, a5, a6, a7, a8, a9, a10, a11, a12, a13, a14) 75 := by
  unfold wpX_load
  dsimp only
  refine ⟨by decide, nm_r (e' := upd a14 2 0) (by rw [show (75 - 75 / 5 * 5 : Int32) = 0 by decide +kernel]) ⟨by decide, nm_r (e' := 15) (by decide +kernel) ⟨by decide, nm_r (e' := upd (upd a14 2 0) 1 0) (by rw [show (15 - 15 / 5 * 5 : Int32) = 0 by decide +kernel]) ⟨by decide, nm_r (e' := 3) (by decide +kernel) (nm_r (e' := 3) (by decide +kernel) (nm_r (e' := 0) (by decide +kernel) (br_t rfl ?_)))⟩⟩⟩⟩
  unfold wX_load_63
  exact nm_e (H _ (sy_Oload pr a14))
theorem sy_choose {post : Int32 → Prop} {n : Int32} (H : post 1) : wpX_choose post () n 0 := ⟨1, br_t (by decide +kernel) H⟩
theorem sy_size {pos2 : Int32 → St2 → Prop} (H : ∀ b, sy_O pr b → pos2 1 (0, 3, pr, rc, ac, kn, ex, a1, a2, a3, a4, a5, a6, a7, a8, a9, a10, a11, a12, a13, b)) : wpX_sizeOf pos2 (sh, ho, pr, rc, ac, kn, ex, a1, a2, a3, a4, a5, a6, a7, a8, a9, a10, a11, a12, a13, a14) 75 := by
  unfold wpX_sizeOf
  refine sy_load (fun b hb => ?_)
  refine br_t rfl ?_
  unfold wX_sizeOf_32
  rw [hb.2.1, hb.2.2]
  refine sy_choose (nm_r (e' := 1) (by decide +kernel) (nm_e (sy_choose ?_)))
  rw [show (1 * 1 : Int32) = 1 by decide +kernel]
  exact H b hb
theorem sy_expand {post : St2 → Prop} (H : ∀ b, sy_O pr b → post (0, 3, pr, 0, ac, kn, ex, a1, a2, a3, a4, a5, a6, a7, a8, a9, a10, a11, a12, a13, b)) : wpX_expand post (sh, ho, pr, 0, ac, kn, ex, a1, a2, a3, a4, a5, a6, a7, a8, a9, a10, a11, a12, a13, a14) 75 := by
  unfold wpX_expand
  refine sy_load (fun b hb => ?_)
  exact ⟨1, br_t (by decide +kernel) (H b hb)⟩
theorem sy_meet {post : St2 → Prop} {D : Nat → Int32} (hD : D 75 = -1) (H : ∀ Q : Nat → Int32, Q 0 = 75 → post (sh, ho, pr, rc, ac, 1, ex, a1, a2, a3, a4, a5, a6, a7, a8, a9, a10, upd D 75 0, Q, a13, a14)) : wpX_meet post (sh, ho, pr, rc, ac, 0, ex, a1, a2, a3, a4, a5, a6, a7, a8, a9, a10, D, a12, a13, a14) 75 0 := by
  unfold wpX_meet
  dsimp only
  rw [sy_c75, sy_c0, hD]
  exact br_f (by decide +kernel) (br_f (by decide +kernel) (br_f (by decide +kernel) ⟨sy_in75, br_f (by decide +kernel) ⟨sy_in75, nm_e ⟨sy_in0 (by omega), nm_e (nm_r (e' := 1) (by decide +kernel) (H _ pk_us))⟩⟩⟩))
theorem sy_number {post : Int32 → Prop} {a b c d r : Int32} (e : (((((a * 4) + b) * 5) + c) * 5) + d = r) (h : post r) : wpX_number post () a b c d := by
  unfold wpX_number
  rw [e]
  exact h
theorem sy_ex51 {post : St2 → Prop} (hQ : a12 0 = 75) (H : ∀ b, post (0, 3, pr, 0, ac, 1, 1, a1, a2, a3, a4, a5, a6, a7, a8, a9, a10, a11, a12, a13, b)) : wX_explore_51 post 2 0 sh ho pr 0 ac 1 ex a1 a2 a3 a4 a5 a6 a7 a8 a9 a10 a11 a12 a13 a14 := by
  refine br_f (by decide +kernel) (br_f (by decide +kernel) ⟨sy_in0 (by omega), ?_⟩)
  rw [sy_c0, hQ]
  refine sy_expand (fun b _ => ?_)
  refine nm_r (e' := 1) (by decide +kernel) ?_
  exact br_f (by decide +kernel) (br_t (by decide +kernel) (H b))
theorem sy_ex10 {post : St2 → Prop} (H : ∀ D Q b, sy_D D Q → post (0, 3, pr, 0, ac, 1, 1, a1, a2, a3, a4, a5, a6, a7, a8, a9, a10, D, Q, a13, b)) : ∃ n, wX_explore_10 post sh ho pr 0 ac kn ex n 0 a1 a2 a3 a4 a5 a6 a7 a8 a9 a10 a11 a12 a13 a14 := by
  refine pk_loop (fun n i s => wX_explore_10 post sh ho pr 0 ac kn ex n (nI i) a1 a2 a3 a4 a5 a6 a7 a8 a9 a10 s a12 a13 a14) (fun i s => ∀ j, j < i → s j = -1) 300 0 a11 (by omega) (fun j hj => absurd hj (by omega)) ?_ ?_
  · intro n s h
    refine pk_le 300 300 (fun _ => ?_) (fun z => absurd z (by omega))
    refine sy_number (r := 75) (by decide +kernel) ?_
    refine sy_meet (h 75 (by omega)) (fun Q hQ => ?_)
    refine ⟨2, sy_ex51 hQ (fun b => H _ Q b ⟨hQ, pk_us, fun j hj hn => ?_⟩)⟩
    rw [pk_un hn]
    exact h j hj
  · intro n i s hi h hw
    refine pk_le 300 i (fun z => absurd z (by omega)) (fun _ => ⟨pk_in i 300 hi, nm_r (e' := upd s i (-1)) (by rw [nI_clamp (by omega)]) (nm_r (nI_1 i) (hw _ (fun j hj => ?_)))⟩)
    by_cases e : j = i
    · rw [e, pk_us]
    · rw [pk_un e]
      exact h j (by omega)
theorem sy_explore {post : St2 → Prop} (H : ∀ D Q b, sy_D D Q → post (0, 3, pr, 0, ac, 1, 1, a1, a2, a3, a4, a5, a6, a7, a8, a9, a10, D, Q, a13, b)) : wpX_explore post (sh, ho, pr, 0, ac, kn, 0, a1, a2, a3, a4, a5, a6, a7, a8, a9, a10, a11, a12, a13, a14) := by
  unfold wpX_explore
  dsimp only
  exact br_t rfl (sy_ex10 H)
theorem sy_explored {post : St2 → Prop} (H : post (sh, ho, pr, rc, ac, kn, 1, a1, a2, a3, a4, a5, a6, a7, a8, a9, a10, a11, a12, a13, a14)) : wpX_explore post (sh, ho, pr, rc, ac, kn, 1, a1, a2, a3, a4, a5, a6, a7, a8, a9, a10, a11, a12, a13, a14) := by
  unfold wpX_explore
  dsimp only
  exact br_f (by decide +kernel) H
/-- whether kind 75 rings: r is 1 or 0 -/
def sy_R (pr ac : Int32) (a8 a9 a10 : Nat → Int32) (r : Int32) : Prop :=
  (ac = 0 ∧ r = 0) ∨ (ac = 1 ∧ ((r = 1 ∧ a8 0 = 0 ∧ ¬ pr < a9 0 ∧ (a10 0 = 3 ∨ a10 0 = 0)) ∨ (r = 0 ∧ ((a8 0 = 0 ∧ (pr < a9 0 ∨ (¬ a10 0 = 3 ∧ ¬ a10 0 = 0))) ∨ ((a8 0 = 1 ∨ a8 0 = 2) ∧ 0 < a9 0)))))
theorem sy_R01 {a8 a9 a10 : Nat → Int32} {r : Int32} (h : sy_R pr ac a8 a9 a10 r) : r = 0 ∨ r = 1 := by
  rcases h with h | ⟨_, h | h⟩
  · exact Or.inl h.2
  · exact Or.inr h.1
  · exact Or.inl h.1
theorem sy_r44 {pos2 : Int32 → St2 → Prop} {J : Int32 → Prop} {r t : Int32} (hr : (r = 1 ∧ ¬ t < a9 0 ∧ (a10 0 = 3 ∨ a10 0 = 0)) ∨ (r = 0 ∧ (t < a9 0 ∨ (¬ a10 0 = 3 ∧ ¬ a10 0 = 0)))) (HJ : r = 0 → J 1) (Hp : r = 1 → pos2 1 (0, ho, pr, rc, ac, kn, ex, a1, a2, a3, a4, a5, a6, a7, a8, a9, a10, a11, a12, a13, a14)) : wX_rings_44 pos2 J 0 0 t 0 ho pr rc ac kn ex a1 a2 a3 a4 a5 a6 a7 a8 a9 a10 a11 a12 a13 a14 := by
  unfold wX_rings_44
  rw [sy_c0]
  refine nm_r (e' := t) (by simp) ⟨sy_in0 (by omega), ?_⟩
  rcases hr with ⟨h1, h2, h3⟩ | ⟨h1, h2⟩
  · refine br_f h2 ⟨sy_in0 (by omega), br_c (fun _ => Hp h1) (fun z => ⟨sy_in0 (by omega), br_t ?_ (Hp h1)⟩)⟩
    rcases h3 with h3 | h3
    · exact absurd h3 z
    · exact h3
  · refine br_c (fun _ => nm_r (e' := 1) (by decide +kernel) (HJ h1)) (fun z => ⟨sy_in0 (by omega), ?_⟩)
    rcases h2 with h2 | ⟨h2, h3⟩
    · exact absurd h2 z
    · exact br_f h2 ⟨sy_in0 (by omega), br_f h3 (nm_r (e' := 1) (by decide +kernel) (HJ h1))⟩
theorem sy_rings {pos2 : Int32 → St2 → Prop} {r : Int32} (hr : sy_R pr ac a8 a9 a10 r) (H : ∀ b, sy_O pr b → pos2 r (0, 3, pr, rc, ac, kn, ex, a1, a2, a3, a4, a5, a6, a7, a8, a9, a10, a11, a12, a13, b)) : wpX_rings pos2 (sh, ho, pr, rc, ac, kn, ex, a1, a2, a3, a4, a5, a6, a7, a8, a9, a10, a11, a12, a13, a14) 75 := by
  unfold wpX_rings
  refine sy_load (fun b hb => ⟨2, ?_⟩)
  obtain ⟨hb0, hb1, hb2⟩ := id hb
  rcases hr with ⟨rfl, rfl⟩ | ⟨rfl, hr⟩
  · exact br_t (by decide +kernel) (H b hb)
  · have HJ : r = 0 → wX_rings_7 pos2 0 3 pr rc 1 kn ex a1 a2 a3 a4 a5 a6 a7 a8 a9 a10 a11 a12 a13 b 1 1 := fun e => br_t (by decide +kernel) (by have t := H b hb; rw [e] at t; exact t)
    have Hp : r = 1 → pos2 1 (0, 3, pr, rc, 1, kn, ex, a1, a2, a3, a4, a5, a6, a7, a8, a9, a10, a11, a12, a13, b) := fun e => by have t := H b hb; rw [e] at t; exact t
    refine br_f (by decide +kernel) ?_
    rw [sy_c0]
    rcases hr with ⟨e, h1, h2, h3⟩ | ⟨e, ⟨h1, h2⟩ | ⟨h1 | h1, h2⟩⟩
    · rw [h1, sy_c0, hb0]
      exact ⟨sy_in0 (by omega), sy_in0 (by omega), sy_in0 (by omega), br_f (by decide +kernel) (sy_r44 (Or.inl ⟨e, h2, h3⟩) HJ Hp)⟩
    · rw [h1, sy_c0, hb0]
      exact ⟨sy_in0 (by omega), sy_in0 (by omega), sy_in0 (by omega), br_f (by decide +kernel) (sy_r44 (Or.inr ⟨e, h2⟩) HJ Hp)⟩
    · rw [h1, show (1 : Int32).toNatClampNeg = 1 by decide +kernel, hb1]
      exact ⟨sy_in0 (by omega), pk_in 1 3 (by omega), sy_in0 (by omega), br_f (by decide +kernel) (sy_r44 (Or.inr ⟨e, Or.inl h2⟩) HJ Hp)⟩
    · rw [h1, show (2 : Int32).toNatClampNeg = 2 by decide +kernel, hb2]
      exact ⟨sy_in0 (by omega), pk_in 2 3 (by omega), sy_in0 (by omega), br_f (by decide +kernel) (sy_r44 (Or.inr ⟨e, Or.inl h2⟩) HJ Hp)⟩
end
end
section
section
variable {sh ho pr rc ac kn ex : Int32} {a1 a2 a3 a4 a5 a6 a7 a8 a9 a10 a11 a12 a13 a14 : Nat → Int32}
theorem sy_pwS {post : Int32 → Prop} {n : Nat} {x0 x1 x2 y1 y2 : Int32} (h1 : ¬ x0 ≤ x2) (h2 : ¬ 4 ≤ x2) (e1 : x1 * 3 = y1) (e2 : x2 + 1 = y2) (h : wX_power_4 post x0 n y1 y2) : wX_power_4 post x0 (n + 1) x1 x2 :=
  br_f h1 (br_f h2 (nm_r e1 (nm_r e2 h)))
theorem sy_pwE {post : Int32 → Prop} {n : Nat} {x0 x1 x2 : Int32} (h1 : x0 ≤ x2) (h : post x1) : wX_power_4 post x0 (n + 1) x1 x2 := br_t h1 h
theorem sy_power {post : Int32 → Prop} {P : Nat} (hP : sy_P P) (H : post (nI (3 ^ P))) : wpX_power post () (nI P) := by
  unfold wpX_power
  rcases hP with rfl | rfl | rfl | rfl
  · exact ⟨2, sy_pwS (y1 := 3) (y2 := 1) (by decide +kernel) (by decide +kernel) (by decide +kernel) (by decide +kernel) (sy_pwE (by decide +kernel) H)⟩
  · exact ⟨3, sy_pwS (y1 := 3) (y2 := 1) (by decide +kernel) (by decide +kernel) (by decide +kernel) (by decide +kernel) (sy_pwS (y1 := 9) (y2 := 2) (by decide +kernel) (by decide +kernel) (by decide +kernel) (by decide +kernel) (sy_pwE (by decide +kernel) H))⟩
  · exact ⟨4, sy_pwS (y1 := 3) (y2 := 1) (by decide +kernel) (by decide +kernel) (by decide +kernel) (by decide +kernel) (sy_pwS (y1 := 9) (y2 := 2) (by decide +kernel) (by decide +kernel) (by decide +kernel) (by decide +kernel) (sy_pwS (y1 := 27) (y2 := 3) (by decide +kernel) (by decide +kernel) (by decide +kernel) (by decide +kernel) (sy_pwE (by decide +kernel) H)))⟩
  · exact ⟨5, sy_pwS (y1 := 3) (y2 := 1) (by decide +kernel) (by decide +kernel) (by decide +kernel) (by decide +kernel) (sy_pwS (y1 := 9) (y2 := 2) (by decide +kernel) (by decide +kernel) (by decide +kernel) (by decide +kernel) (sy_pwS (y1 := 27) (y2 := 3) (by decide +kernel) (by decide +kernel) (by decide +kernel) (by decide +kernel) (sy_pwS (y1 := 81) (y2 := 4) (by decide +kernel) (by decide +kernel) (by decide +kernel) (by decide +kernel) (sy_pwE (by decide +kernel) H))))⟩
theorem sy_limit {post : Int32 → Prop} {P : Nat} (hP : sy_P P) (H : post (nI (sy_lim P))) : wpX_limit post (sh, ho, nI P, rc, ac, kn, ex, a1, a2, a3, a4, a5, a6, a7, a8, a9, a10, a11, a12, a13, a14) := by
  unfold wpX_limit
  dsimp only
  refine sy_power hP ?_
  rw [show (3 * nI (3 ^ P)) * (nI P + 1) = nI (sy_lim P) from by
    rw [nI_1, show (3 : Int32) = nI 3 from rfl, pk_mul, pk_mul]; rfl]
  exact H
theorem sy_isCode {post : Int32 → Prop} {P : Nat} {code : Int32} (hP : sy_P P) (H0 : (code < 0 ∨ ¬ code < nI (sy_lim P)) → post 0) (H1 : ¬ code < 0 → code < nI (sy_lim P) → post 1) : wpX_isCode post (sh, ho, nI P, rc, ac, kn, ex, a1, a2, a3, a4, a5, a6, a7, a8, a9, a10, a11, a12, a13, a14) code := by
  unfold wpX_isCode
  refine sy_limit hP ?_
  exact br_c (fun z => H0 (Or.inl z)) (fun z => br_c (fun w => H0 (Or.inr (fun q => Int32.not_le.mpr q w))) (fun w => H1 z (Int32.not_le.mp w)))
theorem sy_num {x h o1 o2 : Nat} (hx : x < 2 ^ 31) : ((((nI x - nI x / 3 * 3) * 4 + nI h) * 5) + nI o1) * 5 + nI o2 = nI (((x % 3 * 4 + h) * 5 + o1) * 5 + o2) := by
  rw [show (3 : Int32) = nI 3 from rfl, show (4 : Int32) = nI 4 from rfl, show (5 : Int32) = nI 5 from rfl, pk_rem hx (by omega) (by omega)]
  rw [pk_mul, nI_add, pk_mul, nI_add, pk_mul, nI_add]
theorem sy_up1 {b : Nat → Int32} {x o j : Nat} (hb : b j = nI o) : upd b x (b x + 1) j = nI (if x = j then o + 1 else o) := by
  by_cases e : x = j
  · rw [if_pos e, e, pk_us, hb, nI_1]
  · rw [if_neg e, pk_un (fun z => e z.symm), hb]
theorem sy_c43 {pos2 : Int32 → St2 → Prop} {P T : Nat} (hP : P ≤ 4) (hT : T < 2 ^ 31) : ∀ (n p x h o1 o2 : Nat) (b : Nat → Int32), p + n = P → x < 2 ^ 31 → b 1 = nI o1 → b 2 = nI o2 → (∀ s g c, pos2 (nI (sy_cl n T p x h o1 o2)) (s, g, nI P, rc, ac, kn, ex, a1, a2, a3, a4, a5, a6, a7, a8, a9, a10, a11, a12, a13, c)) → wX_classOf_43 pos2 (nI T) sh (nI P) rc ac kn ex (n + 1) (nI x) (nI p) (nI h) a1 a2 a3 a4 a5 a6 a7 a8 a9 a10 a11 a12 a13 b := by
  intro n
  induction n with
  | zero =>
    intro p x h o1 o2 b hp hx h1 h2 H
    refine pk_le P p (fun _ => ⟨by decide, nm_e (sy_number (r := nI (sy_cl 0 T p x h o1 o2)) ?_ (H _ _ _))⟩) (fun z => absurd z (by omega))
    rw [h1, h2]
    exact sy_num hx
  | succ n ih =>
    intro p x h o1 o2 b hp hx h1 h2 H
    have hm : x % 3 < 3 := Nat.mod_lt x (by omega)
    have hd : x / 3 < 2 ^ 31 := Nat.lt_of_le_of_lt (Nat.div_le_self x 3) hx
    refine pk_le P p (fun z => absurd z (by omega)) (fun _ => ⟨by decide, nm_r (e' := nI (x % 3)) (pk_rem (d := 3) hx (by decide) (by decide)) ⟨by decide, nm_r (e' := nI (x / 3)) (pk_div (d := 3) hx (by decide) (by decide)) ?_⟩⟩)
    refine pk_eq p T (fun e => nm_r (nI_1 p) ?_) (fun e => ⟨vp_in_nI hm (by omega), vp_in_nI hm (by omega), ?_⟩)
    · refine ih (p + 1) (x / 3) (x % 3) o1 o2 b (by omega) hd h1 h2 (fun s g c => ?_)
      have t := H s g c
      rw [sy_cl, if_pos e] at t
      exact t
    · rw [nI_clamp (show x % 3 < 2 ^ 31 by omega)]
      refine nm_e (nm_r (nI_1 p) ?_)
      refine ih (p + 1) (x / 3) h _ _ _ (by omega) hd (sy_up1 h1) (sy_up1 h2) (fun s g c => ?_)
      have t := H s g c
      rw [sy_cl, if_neg e] at t
      exact t
theorem sy_kind {pos2 : Int32 → St2 → Prop} {P k : Nat} (hP : sy_P P) (hk : k < 2 ^ 31) (H : ∀ s g c, pos2 (nI (sy_cls P k)) (s, g, nI P, rc, ac, kn, ex, a1, a2, a3, a4, a5, a6, a7, a8, a9, a10, a11, a12, a13, c)) : wpX_classOf pos2 (sh, ho, nI P, rc, ac, kn, ex, a1, a2, a3, a4, a5, a6, a7, a8, a9, a10, a11, a12, a13, a14) (nI k) := by
  obtain ⟨_, _, q1, q2, p1, p4⟩ := sy_limP hP
  have e3 : 3 * nI (3 ^ P) = nI (3 * 3 ^ P) := pk_mul 3 (3 ^ P)
  unfold wpX_classOf
  dsimp only
  refine sy_power hP ?_
  rw [e3]
  refine ⟨nI_ne0 q2 (by omega), nm_r (e' := nI (k / (3 * 3 ^ P))) (pk_div hk q2 (by omega)) (nm_e (nm_e (nm_e ⟨P + 1, ?_⟩)))⟩
  refine sy_c43 p4 (Nat.lt_of_le_of_lt (Nat.div_le_self _ _) hk) P 0 k 3 0 0 _ (by omega) hk ?_ ?_ H
  · rw [pk_un (by decide), pk_us]
    rfl
  · rw [pk_us]
    rfl
theorem sy_fb {pos2 : Int32 → St2 → Prop} {P : Nat} (hP : sy_P P) (hD : sy_D a11 a12) (hr : sy_R (nI P) ac a8 a9 a10 1) (H : ∀ s g c, pos2 (nI (sy_start P)) (s, g, nI P, rc, ac, kn, ex, a1, a2, a3, a4, a5, a6, a7, a8, a9, a10, a11, a12, a13, c)) : ∀ (n k : Nat) (sh ho : Int32) (a14 : Nat → Int32), k + n = sy_start P → wX_firstBad_7 pos2 0 (nI (sy_lim P)) (n + 1) (nI k) sh ho (nI P) rc ac kn ex a1 a2 a3 a4 a5 a6 a7 a8 a9 a10 a11 a12 a13 a14 := by
  obtain ⟨l1, l2, q1, q2, p1, p4⟩ := sy_limP hP
  intro n
  induction n with
  | zero =>
    intro k sh ho a14 hk
    obtain ⟨c1, c2⟩ := sy_clsP hP (show k < sy_lim P by omega)
    have e : sy_cls P k = 75 := c2.mpr (by omega)
    refine pk_le (sy_lim P) k (fun z => absurd z (by omega)) (fun _ => ?_)
    refine sy_kind hP (by omega) (fun s g c => ?_)
    rw [e]
    refine ⟨sy_in75, br_t hD.2.1 ?_⟩
    refine sy_rings hr (fun b _ => br_f (by decide) ?_)
    have e2 : k = sy_start P := by omega
    rw [e2]
    exact H _ _ _
  | succ n ih =>
    intro k sh ho a14 hk
    obtain ⟨c1, c2⟩ := sy_clsP hP (show k < sy_lim P by omega)
    have e : sy_cls P k ≠ 75 := fun z => absurd (c2.mp z) (by omega)
    refine pk_le (sy_lim P) k (fun z => absurd z (by omega)) (fun _ => ?_)
    refine sy_kind hP (by omega) (fun s g c => ?_)
    refine ⟨vp_in_nI c1 (by omega), br_f ?_ (nm_r (nI_1 k) (ih (k + 1) s g c (by omega)))⟩
    rw [nI_clamp (show sy_cls P k < 2 ^ 31 by omega), hD.2.2 _ c1 e]
    decide
theorem sy_firstBad {pos2 : Int32 → St2 → Prop} {P : Nat} (hP : sy_P P) (hD : sy_D a11 a12) (hr : sy_R (nI P) ac a8 a9 a10 1) (H : ∀ s g c, pos2 (nI (sy_start P)) (s, g, nI P, rc, ac, kn, ex, a1, a2, a3, a4, a5, a6, a7, a8, a9, a10, a11, a12, a13, c)) : wpX_firstBad pos2 (sh, ho, nI P, rc, ac, kn, ex, a1, a2, a3, a4, a5, a6, a7, a8, a9, a10, a11, a12, a13, a14) 0 := by
  unfold wpX_firstBad
  exact sy_limit hP ⟨sy_start P + 1, sy_fb hP hD hr H (sy_start P) 0 sh ho a14 (by omega)⟩
theorem sy_depth {pos2 : Int32 → St2 → Prop} {P : Nat} {code : Int32} (hP : sy_P P) (hD : sy_D a11 a12)
    (H1 : (code < 0 ∨ ¬ code < nI (sy_lim P)) → pos2 (-1) (sh, ho, nI P, rc, ac, kn, 1, a1, a2, a3, a4, a5, a6, a7, a8, a9, a10, a11, a12, a13, a14))
    (H2 : ∀ s g c, ¬ code < 0 → code < nI (sy_lim P) → code = nI (sy_start P) → pos2 0 (s, g, nI P, rc, ac, kn, 1, a1, a2, a3, a4, a5, a6, a7, a8, a9, a10, a11, a12, a13, c))
    (H3 : ∀ s g c, ¬ code < 0 → code < nI (sy_lim P) → ¬ code = nI (sy_start P) → pos2 (-2) (s, g, nI P, rc, ac, kn, 1, a1, a2, a3, a4, a5, a6, a7, a8, a9, a10, a11, a12, a13, c)) : wpX_depth pos2 (sh, ho, nI P, rc, ac, kn, 1, a1, a2, a3, a4, a5, a6, a7, a8, a9, a10, a11, a12, a13, a14) code := by
  obtain ⟨l1, l2, q1, q2, p1, p4⟩ := sy_limP hP
  unfold wpX_depth
  refine sy_isCode hP (fun z => br_t rfl (H1 z)) (fun z w' => br_f (by decide) ?_)
  · obtain ⟨k, hk, rfl⟩ := nI_of z
    have hkl : k < sy_lim P := (nI_ltI hk (by omega)).mp w'
    obtain ⟨c1, c2⟩ := sy_clsP hP hkl
    refine sy_explored ?_
    refine sy_kind hP hk (fun s g c => ⟨vp_in_nI c1 (by omega), ?_⟩)
    rw [nI_clamp (show sy_cls P k < 2 ^ 31 by omega)]
    by_cases e : k = sy_start P
    · have e' : sy_cls P k = 75 := c2.mpr e
      rw [e', hD.2.1]
      exact br_t (by decide) ⟨sy_in75, H2 s g c z w' (by rw [e])⟩
    · have e' : sy_cls P k ≠ 75 := fun q => e (c2.mp q)
      rw [hD.2.2 _ c1 e']
      exact br_f (by decide) (H3 s g c z w' (fun q => e ((nI_eq hk (by omega)).mp q)))
end
end
section
section
variable {sh ho pr rc ac kn ex : Int32} {a1 a2 a3 a4 a5 a6 a7 a8 a9 a10 a11 a12 a13 a14 : Nat → Int32}
theorem sy_bad8 {pos2 : Int32 → St2 → Prop} {r : Int32} (hD : sy_D a11 a12) (hr : sy_R pr ac a8 a9 a10 r) (H : ∀ c, pos2 r (0, 3, pr, rc, ac, 1, ex, a1, a2, a3, a4, a5, a6, a7, a8, a9, a10, a11, a12, a13, c)) : wX_badStates_8 pos2 2 0 0 sh ho pr rc ac 1 ex a1 a2 a3 a4 a5 a6 a7 a8 a9 a10 a11 a12 a13 a14 := by
  refine br_f (by decide) ⟨sy_in0 (by omega), ?_⟩
  rw [sy_c0, hD.1]
  refine sy_rings hr (fun b hb => ?_)
  rcases sy_R01 hr with e | e
  · rw [e] at H
    exact br_t e (nm_r (e' := 1) (by decide) (br_t (by decide) (H b)))
  · rw [e] at H
    refine br_f (by rw [e]; decide) ⟨sy_in0 (by omega), ?_⟩
    rw [hD.1]
    exact sy_size (fun c _ => nm_r (e' := 1) (by decide) (nm_r (e' := 1) (by decide) (br_t (by decide) (H c))))
theorem sy_bad0 {pos2 : Int32 → St2 → Prop} {r : Int32} (hr : sy_R pr ac a8 a9 a10 r) (H : ∀ D Q c, sy_D D Q → pos2 r (0, 3, pr, 0, ac, 1, 1, a1, a2, a3, a4, a5, a6, a7, a8, a9, a10, D, Q, a13, c)) : wpX_badStates pos2 (sh, ho, pr, 0, ac, kn, 0, a1, a2, a3, a4, a5, a6, a7, a8, a9, a10, a11, a12, a13, a14) := by
  unfold wpX_badStates
  exact sy_explore (fun D Q b hD => ⟨2, sy_bad8 hD hr (fun c => H D Q c hD)⟩)
theorem sy_bad1 {pos2 : Int32 → St2 → Prop} {r : Int32} (hD : sy_D a11 a12) (hr : sy_R pr ac a8 a9 a10 r) (H : ∀ c, pos2 r (0, 3, pr, rc, ac, 1, 1, a1, a2, a3, a4, a5, a6, a7, a8, a9, a10, a11, a12, a13, c)) : wpX_badStates pos2 (sh, ho, pr, rc, ac, 1, 1, a1, a2, a3, a4, a5, a6, a7, a8, a9, a10, a11, a12, a13, a14) := by
  unfold wpX_badStates
  exact sy_explored ⟨2, sy_bad8 hD hr H⟩
/-- violation's answer -/
theorem sy_vio {pos2 : Int32 → St2 → Prop} {r : Int32} (hD : sy_D a11 a12) (hr : sy_R pr ac a8 a9 a10 r) (H0 : r = 0 → ∀ c, pos2 (-1) (0, 3, pr, rc, ac, 1, 1, a1, a2, a3, a4, a5, a6, a7, a8, a9, a10, a11, a12, a13, c)) (H1 : r = 1 → ∀ c, pos2 0 (0, 3, pr, rc, ac, 1, 1, a1, a2, a3, a4, a5, a6, a7, a8, a9, a10, a11, a12, a13, c)) : wpX_violation pos2 (sh, ho, pr, rc, ac, 1, 1, a1, a2, a3, a4, a5, a6, a7, a8, a9, a10, a11, a12, a13, a14) := by
  unfold wpX_violation
  refine sy_explored ⟨2, ?_⟩
  refine br_f (by decide) ⟨sy_in0 (by omega), ?_⟩
  rw [sy_c0, hD.1]
  refine sy_rings hr (fun b hb => ?_)
  rcases sy_R01 hr with e | e
  · exact br_t e (nm_r (e' := 1) (by decide) (br_t (by decide) (H0 e b)))
  · refine br_f (by rw [e]; decide) ⟨sy_in0 (by omega), ?_⟩
    rw [hD.1, sy_c75, hD.2.1]
    exact ⟨sy_in75, H1 e b⟩
theorem sy_trace {pos2 : Int32 → St2 → Prop} {r : Int32} {P : Nat} (hP : sy_P P) (hD : sy_D a11 a12) (hr : sy_R (nI P) ac a8 a9 a10 r) (H0 : r = 0 → ∀ s g c, pos2 (-1) (s, g, nI P, rc, ac, 1, 1, a1, a2, a3, a4, a5, a6, a7, a8, a9, a10, a11, a12, a13, c)) (H1 : r = 1 → ∀ s g c, pos2 (nI (sy_start P)) (s, g, nI P, rc, ac, 1, 1, a1, a2, a3, a4, a5, a6, a7, a8, a9, a10, a11, a12, a13, c)) : wpX_trace pos2 (sh, ho, nI P, rc, ac, 1, 1, a1, a2, a3, a4, a5, a6, a7, a8, a9, a10, a11, a12, a13, a14) 0 := by
  unfold wpX_trace
  refine sy_vio hD hr (fun e c => ?_) (fun e c => ?_)
  · exact br_f (by decide) (H0 e _ _ _)
  · rw [e] at hr
    refine br_t (by decide) (br_f (by decide) (br_t (by decide) ?_))
    exact sy_firstBad hP hD hr (fun s g b => nm_r (e' := -1) (by decide) ⟨1, br_t (by decide) (H1 e s g b)⟩)
theorem sy_reach {pos2 : Int32 → St2 → Prop} (hD : sy_D a11 a12) (H : ∀ c, pos2 1 (0, 3, pr, rc, ac, 1, 1, a1, a2, a3, a4, a5, a6, a7, a8, a9, a10, a11, a12, a13, c)) : wpX_reachable pos2 (sh, ho, pr, rc, ac, 1, 1, a1, a2, a3, a4, a5, a6, a7, a8, a9, a10, a11, a12, a13, a14) := by
  unfold wpX_reachable
  refine sy_explored ⟨2, ?_⟩
  refine br_f (by decide) ⟨sy_in0 (by omega), ?_⟩
  rw [sy_c0, hD.1]
  exact sy_size (fun c _ => nm_r (e' := 1) (by decide) (nm_r (e' := 1) (by decide) (br_t (by decide) (H c))))
theorem sy_stuck {pos2 : Int32 → St2 → Prop} (hD : sy_D a11 a12) (H : ∀ c, pos2 1 (0, 3, pr, 0, ac, 1, 1, a1, a2, a3, a4, a5, a6, a7, a8, a9, a10, a11, a12, a13, c)) : wpX_stuckStates pos2 (sh, ho, pr, 0, ac, 1, 1, a1, a2, a3, a4, a5, a6, a7, a8, a9, a10, a11, a12, a13, a14) := by
  unfold wpX_stuckStates
  refine sy_explored ⟨2, ?_⟩
  refine br_f (by decide) ⟨sy_in0 (by omega), ?_⟩
  rw [sy_c0, hD.1]
  refine sy_load (fun b hb => ?_)
  refine ⟨1, br_t (by decide) (br_t rfl ⟨sy_in0 (by omega), ?_⟩)⟩
  rw [hD.1]
  exact sy_size (fun c _ => nm_r (e' := 1) (by decide) (nm_r (e' := 1) (by decide) (br_t (by decide) (H c))))
theorem sy_stays {pos2 : Int32 → St2 → Prop} (H : ∀ c, pos2 0 (0, 3, pr, 0, ac, kn, ex, a1, a2, a3, a4, a5, a6, a7, a8, a9, a10, a11, a12, a13, c)) : wpX_staysAlive pos2 (sh, ho, pr, 0, ac, kn, ex, a1, a2, a3, a4, a5, a6, a7, a8, a9, a10, a11, a12, a13, a14) 75 := by
  unfold wpX_staysAlive
  exact sy_load (fun b hb => ⟨1, br_t (by decide) (H b)⟩)
theorem sy_e120 {pos2 : Int32 → St2 → Prop} (hD : sy_D a11 a12) (ha : a13 75 = 0) (H : pos2 0 (sh, ho, pr, rc, ac, 1, ex, a1, a2, a3, a4, a5, a6, a7, a8, a9, a10, a11, a12, a13, a14)) : wX_endless_120 pos2 2 0 0 sh ho pr rc ac 1 ex a1 a2 a3 a4 a5 a6 a7 a8 a9 a10 a11 a12 a13 a14 := by
  refine br_f (by decide) ⟨sy_in0 (by omega), ?_⟩
  rw [sy_c0, hD.1, sy_c75]
  exact ⟨sy_in75, br_t ha (nm_r (e' := 1) (by decide) (br_t (by decide) H))⟩
theorem sy_e52b {pos2 : Int32 → St2 → Prop} {J : Int32 → Int32 → Int32 → Int32 → Int32 → Int32 → Int32 → Int32 → (Nat → Int32) → (Nat → Int32) → (Nat → Int32) → (Nat → Int32) → (Nat → Int32) → (Nat → Int32) → (Nat → Int32) → (Nat → Int32) → (Nat → Int32) → (Nat → Int32) → (Nat → Int32) → (Nat → Int32) → (Nat → Int32) → (Nat → Int32) → Prop} {x1 : Int32} (hD : sy_D a11 a12) (ha : a13 75 = 0) (H : pos2 0 (sh, ho, pr, rc, ac, 1, ex, a1, a2, a3, a4, a5, a6, a7, a8, a9, a10, a11, a12, a13, a14)) : wX_endless_52 pos2 J x1 2 0 0 sh ho pr rc ac 1 ex a1 a2 a3 a4 a5 a6 a7 a8 a9 a10 a11 a12 a13 a14 := by
  refine br_f (by decide) ⟨sy_in0 (by omega), ?_⟩
  rw [sy_c0, hD.1]
  refine nm_e ⟨sy_in75, ?_⟩
  rw [sy_c75]
  exact br_t ha (nm_r (e' := 1) (by decide) (br_t (by decide) (br_t rfl ⟨2, sy_e120 hD ha H⟩)))
theorem sy_e52a {pos2 : Int32 → St2 → Prop} {J : Int32 → Int32 → Int32 → Int32 → Int32 → Int32 → Int32 → Int32 → (Nat → Int32) → (Nat → Int32) → (Nat → Int32) → (Nat → Int32) → (Nat → Int32) → (Nat → Int32) → (Nat → Int32) → (Nat → Int32) → (Nat → Int32) → (Nat → Int32) → (Nat → Int32) → (Nat → Int32) → (Nat → Int32) → (Nat → Int32) → Prop} (hD : sy_D a11 a12) (ha : a13 75 = 1) (H : ∀ a c, a 75 = 0 → J 1 0 3 pr 0 ac 1 ex a1 a2 a3 a4 a5 a6 a7 a8 a9 a10 a11 a12 a c) : wX_endless_52 pos2 J 0 2 0 0 sh ho pr 0 ac 1 ex a1 a2 a3 a4 a5 a6 a7 a8 a9 a10 a11 a12 a13 a14 := by
  refine br_f (by decide) ⟨sy_in0 (by omega), ?_⟩
  rw [sy_c0, hD.1]
  refine nm_e ⟨sy_in75, ?_⟩
  rw [sy_c75]
  refine br_f (by rw [ha]; decide) ?_
  refine sy_stays (fun c => ?_)
  exact br_t rfl ⟨sy_in75, nm_e (nm_r (e' := 1) (by decide) (br_t (by decide) (br_f (by decide) (nm_r (e' := 1) (by decide) (H _ c pk_us)))))⟩
theorem sy_e41 {pos2 : Int32 → St2 → Prop} (hD : sy_D a11 a12) (ha : a13 75 = 1) (H : ∀ a c, pos2 0 (0, 3, pr, 0, ac, 1, ex, a1, a2, a3, a4, a5, a6, a7, a8, a9, a10, a11, a12, a, c)) : wX_endless_41 pos2 2 0 sh ho pr 0 ac 1 ex a1 a2 a3 a4 a5 a6 a7 a8 a9 a10 a11 a12 a13 a14 :=
  br_f (by decide) ⟨2, sy_e52a hD ha (fun a c h => br_f (by decide) ⟨2, sy_e52b hD h (H a c)⟩)⟩
theorem sy_endless {pos2 : Int32 → St2 → Prop} (hD : sy_D a11 a12) (H : ∀ a c, pos2 0 (0, 3, pr, 0, ac, 1, 1, a1, a2, a3, a4, a5, a6, a7, a8, a9, a10, a11, a12, a, c)) : wpX_endless pos2 (sh, ho, pr, 0, ac, 1, 1, a1, a2, a3, a4, a5, a6, a7, a8, a9, a10, a11, a12, a13, a14) := by
  unfold wpX_endless
  refine sy_explored ?_
  refine pk_loop (fun n i s => wX_endless_6 pos2 sh ho pr 0 ac 1 1 n (nI i) a1 a2 a3 a4 a5 a6 a7 a8 a9 a10 a11 a12 s a14) (fun i s => 75 < i → s 75 = 1) 300 0 a13 (by omega) (fun z => absurd z (by omega)) ?_ ?_
  · intro n s h
    exact pk_le 300 300 (fun _ => ⟨2, sy_e41 hD (h (by omega)) H⟩) (fun z => absurd z (by omega))
  · intro n i s hi h hw
    refine pk_le 300 i (fun z => absurd z (by omega)) (fun _ => ⟨pk_in i 300 hi, ?_⟩)
    rw [nI_clamp (show i < 2 ^ 31 by omega)]
    by_cases e : i = 75
    · rw [e] at hw ⊢
      refine br_f (by rw [hD.2.1]; decide) ⟨pk_in 75 300 (by omega), nm_e (nm_r (nI_1 75) (hw _ (fun _ => pk_us)))⟩
    · refine br_t (by rw [hD.2.2 i hi e]; decide) ⟨pk_in i 300 hi, nm_e (nm_r (nI_1 i) (hw _ (fun z => ?_)))⟩
      rw [pk_un (fun z => e z.symm)]
      exact h (by omega)
end
end
section
section
variable {sh ho pr rc ac kn ex : Int32} {a1 a2 a3 a4 a5 a6 a7 a8 a9 a10 a11 a12 a13 a14 : Nat → Int32} {mc ms kc ks : Nat}
theorem sy_pos {x : Int32} (h : ¬ x < 1) : 0 < x := by
  rw [Int32.lt_iff_toInt_lt] at h ⊢
  rw [show (1 : Int32).toInt = 1 by decide +kernel] at h
  rw [show (0 : Int32).toInt = 0 by decide +kernel]
  omega
/-- behind the clearing of the alarms -/
theorem sy_clear {pos2 : Int32 → St2 → Prop} (H : pos2 ac (sh, ho, pr, rc, 0, kn, ex, a1, a2, a3, a4, a5, a6, a7, a8, a9, a10, a11, a12, a13, a14)) : wpX_clearAlarms pos2 (sh, ho, pr, rc, ac, kn, ex, a1, a2, a3, a4, a5, a6, a7, a8, a9, a10, a11, a12, a13, a14) := by
  unfold wpX_clearAlarms
  exact H
theorem sy_add {pos2 : Int32 → St2 → Prop} {x1 x2 x3 : Int32} (h1 : ¬ x1 < 0) (h2 : x1 ≤ 2) (h3 : ¬ x2 < 1) (h4 : x2 ≤ 4) (h5 : ¬ x3 < 0) (h6 : x3 ≤ 3) (H : pos2 1 (sh, ho, pr, rc, 1, kn, ex, a1, a2, a3, a4, a5, a6, a7, upd a8 0 x1, upd a9 0 x2, upd a10 0 x3, a11, a12, a13, a14)) : wpX_addAlarm pos2 (sh, ho, pr, rc, 0, kn, ex, a1, a2, a3, a4, a5, a6, a7, a8, a9, a10, a11, a12, a13, a14) x1 x2 x3 := by
  unfold wpX_addAlarm
  dsimp only
  rw [sy_c0]
  exact br_f h1 (br_t h2 (br_f h3 (br_t h4 (br_f h5 (br_t h6 (br_f (by decide) ⟨sy_in0 (by omega), nm_e ⟨sy_in0 (by omega), nm_e ⟨sy_in0 (by omega), nm_e (nm_r (e' := 1) (by decide) H)⟩⟩⟩))))))
theorem sy_322 {post : Int32 → St0 → Prop} {z : Int32} (hp : post 1 ()) (hD : sy_D a11 a12) : wL_lawOf_322 post mc ms z z kc ks sh ho pr rc 0 1 1 a1 a2 a3 a4 a5 a6 a7 a8 a9 a10 a11 a12 a13 a14 := by
  unfold wL_lawOf_322
  refine br_t rfl ?_
  exact sy_bad1 (r := 0) hD (Or.inl ⟨rfl, rfl⟩) (fun c => br_t rfl hp)
theorem sy_301 {post : Int32 → St0 → Prop} {x9 z : Int32} (hp : post 1 ()) (hD : sy_D a11 a12) (hc : (x9 = 1 ∧ ac = 1) ∨ (¬ x9 = 1 ∧ ac = 0)) : wL_lawOf_301 post mc ms x9 z z kc ks sh ho pr rc ac 1 1 a1 a2 a3 a4 a5 a6 a7 a8 a9 a10 a11 a12 a13 a14 := by
  unfold wL_lawOf_301
  refine br_t rfl ?_
  refine sy_clear ?_
  rcases hc with ⟨h1, h2⟩ | ⟨h1, h2⟩
  · rw [h2]
    exact br_t h1 (sy_322 hp hD)
  · rw [h2]
    exact br_f h1 (sy_322 hp hD)
theorem sy_232 {post : Int32 → St0 → Prop} {x4 x9 z : Int32} {P : Nat} (hP : sy_P P) (hp : post 1 ()) (hD : sy_D a11 a12) (hc : (x9 = 1 ∧ ac = 1) ∨ (¬ x9 = 1 ∧ ac = 0)) : wL_lawOf_232 post mc ms x4 (nI (sy_lim P)) (nI (sy_start P)) x9 z z kc ks sh ho (nI P) 0 ac 1 1 a1 a2 a3 a4 a5 a6 a7 a8 a9 a10 a11 a12 a13 a14 := by
  unfold wL_lawOf_232
  refine br_t rfl ?_
  refine sy_reach hD (fun c1 => br_t rfl ?_)
  refine sy_stuck hD (fun c2 => br_t rfl ?_)
  refine sy_endless hD (fun a c3 => br_t rfl ?_)
  refine sy_depth hP hD (fun h => ?_) (fun s g c h1 h2 h3 => ?_) (fun s g c h1 h2 h3 => ?_)
  · refine br_c (fun _ => ?_) (fun z1 => br_f (Or.resolve_left h z1) ?_)
    · unfold wL_lawOf_284
      exact sy_301 hp hD hc
    · unfold wL_lawOf_284
      exact sy_301 hp hD hc
  · exact br_f h1 (br_t h2 (br_t h3 (sy_301 hp hD hc)))
  · exact br_f h1 (br_t h2 (br_f h3 (sy_301 hp hD hc)))
theorem sy_210 {post : Int32 → St0 → Prop} {x4 x9 x10 z : Int32} {P : Nat} (hP : sy_P P) (hp : post 1 ()) (hD : sy_D a11 a12) (hr : sy_R (nI P) ac a8 a9 a10 x10) (hc : (x9 = 1 ∧ ac = 1) ∨ (¬ x9 = 1 ∧ ac = 0)) : wL_lawOf_210 post mc ms x4 (nI (sy_lim P)) (nI (sy_start P)) x9 x10 z z kc ks sh ho (nI P) 0 ac 1 1 a1 a2 a3 a4 a5 a6 a7 a8 a9 a10 a11 a12 a13 a14 := by
  unfold wL_lawOf_210
  refine br_t rfl ?_
  refine sy_trace hP hD hr (fun e s g c => ?_) (fun e s g c => ?_)
  · exact br_t e (sy_232 hP hp hD hc)
  · exact br_f (by rw [e]; decide) (sy_232 hP hp hD hc)
theorem sy_192 {post : Int32 → St0 → Prop} {x4 x9 x10 z : Int32} {P : Nat} (hP : sy_P P) (hp : post 1 ()) (hD : sy_D a11 a12) (hr : sy_R (nI P) ac a8 a9 a10 x10) (hc : (x9 = 1 ∧ ac = 1) ∨ (¬ x9 = 1 ∧ ac = 0)) : wL_lawOf_192 post mc ms x4 (nI (sy_lim P)) (nI (sy_start P)) x9 x10 z z kc ks sh ho (nI P) 0 ac 1 1 a1 a2 a3 a4 a5 a6 a7 a8 a9 a10 a11 a12 a13 a14 := by
  unfold wL_lawOf_192
  refine br_t rfl ?_
  refine sy_vio hD hr (fun e c => ?_) (fun e c => ?_)
  · exact br_t e (sy_210 hP hp hD hr hc)
  · exact br_f (by rw [e]; decide) (sy_210 hP hp hD hr hc)
theorem sy_175 {post : Int32 → St0 → Prop} {x4 x9 z0 : Int32} {P : Nat} (hP : sy_P P) (hp : post 1 ()) (hr : sy_R (nI P) ac a8 a9 a10 z0) (hc : (x9 = 1 ∧ ac = 1) ∨ (¬ x9 = 1 ∧ ac = 0)) : wL_lawOf_175 post mc ms x4 (nI (sy_lim P)) (nI (sy_start P)) x9 z0 kc ks sh ho (nI P) 0 ac kn 0 a1 a2 a3 a4 a5 a6 a7 a8 a9 a10 a11 a12 a13 a14 := by
  unfold wL_lawOf_175
  refine sy_bad0 hr (fun D Q c hD => ?_)
  rcases sy_R01 hr with e | e
  · rw [e] at hr ⊢
    exact br_t rfl (sy_192 hP hp hD hr hc)
  · rw [e] at hr ⊢
    exact br_f (by decide) (sy_192 hP hp hD hr hc)
/-- the alarm is refused -/
theorem sy_130n {post : Int32 → St0 → Prop} {x1 x2 x3 x4 x6 x9 : Int32} {P : Nat} (hP : sy_P P) (hp : post 1 ()) (h9 : ¬ x9 = 1) (ha : ∀ pos2 : Int32 → St2 → Prop, pos2 x9 (sh, ho, nI P, 0, 0, kn, 0, a1, a2, a3, a4, a5, a6, a7, a8, a9, a10, a11, a12, a13, a14) → wpX_addAlarm pos2 (sh, ho, nI P, 0, 0, kn, 0, a1, a2, a3, a4, a5, a6, a7, a8, a9, a10, a11, a12, a13, a14) x1 x2 x3) : wL_lawOf_130 post mc ms x1 x2 x3 x4 x6 (nI (sy_lim P)) (nI (sy_start P)) x9 kc ks sh ho (nI P) 0 0 kn 0 a1 a2 a3 a4 a5 a6 a7 a8 a9 a10 a11 a12 a13 a14 := by
  unfold wL_lawOf_130
  refine ha _ ?_
  refine br_t rfl (br_f h9 ?_)
  unfold wL_lawOf_174
  exact sy_175 hP hp (Or.inl ⟨rfl, rfl⟩) (Or.inr ⟨h9, rfl⟩)
/-- the alarm is taken -/
theorem sy_130y {post : Int32 → St0 → Prop} {x1 x2 x3 x4 : Int32} {P : Nat} (hP : sy_P P) (hp : post 1 ()) (h1 : ¬ x1 < 0) (h2 : x1 ≤ 2) (h3 : ¬ x2 < 1) (h4 : x2 ≤ 4) (h5 : ¬ x3 < 0) (h6 : x3 ≤ 3) : wL_lawOf_130 post mc ms x1 x2 x3 x4 (nI P) (nI (sy_lim P)) (nI (sy_start P)) 1 kc ks sh ho (nI P) 0 0 kn 0 a1 a2 a3 a4 a5 a6 a7 a8 a9 a10 a11 a12 a13 a14 := by
  unfold wL_lawOf_130
  refine sy_add h1 h2 h3 h4 h5 h6 ?_
  refine br_t rfl (br_t rfl (br_c (fun g1 => br_c (fun g2 => ?_) (fun g2 => br_c (fun g3 => ?_) (fun g3 => br_c (fun g4 => ?_) (fun g4 => ?_)))) (fun g1 => ?_)))
  · unfold wL_lawOf_174
    exact sy_175 hP hp (Or.inr ⟨rfl, Or.inr ⟨rfl, Or.inl ⟨by rw [pk_us]; exact g1, Or.inl (by rw [pk_us]; exact g2)⟩⟩⟩) (Or.inl ⟨rfl, rfl⟩)
  · unfold wL_lawOf_170
    exact sy_175 hP hp (Or.inr ⟨rfl, Or.inl ⟨rfl, by rw [pk_us]; exact g1, by rw [pk_us]; exact g2, Or.inr (by rw [pk_us]; exact g3)⟩⟩) (Or.inl ⟨rfl, rfl⟩)
  · unfold wL_lawOf_170
    exact sy_175 hP hp (Or.inr ⟨rfl, Or.inl ⟨rfl, by rw [pk_us]; exact g1, by rw [pk_us]; exact g2, Or.inl (by rw [pk_us]; exact g4)⟩⟩) (Or.inl ⟨rfl, rfl⟩)
  · unfold wL_lawOf_174
    exact sy_175 hP hp (Or.inr ⟨rfl, Or.inr ⟨rfl, Or.inl ⟨by rw [pk_us]; exact g1, Or.inr ⟨by rw [pk_us]; exact g4, by rw [pk_us]; exact g3⟩⟩⟩⟩) (Or.inl ⟨rfl, rfl⟩)
  · unfold wL_lawOf_174
    refine sy_175 hP hp (Or.inr ⟨rfl, Or.inr ⟨rfl, Or.inr ⟨?_, ?_⟩⟩⟩) (Or.inl ⟨rfl, rfl⟩)
    · rw [pk_us]
      obtain ⟨j, hj, rfl⟩ := nI_of2 (n := 2) (by decide) h1 h2
      have hj' : j = 0 ∨ j = 1 ∨ j = 2 := by omega
      rcases hj' with rfl | rfl | rfl
      · exact absurd rfl g1
      · exact Or.inl rfl
      · exact Or.inr rfl
    · rw [pk_us]
      exact sy_pos h3
theorem sy_68 {post : Int32 → St0 → Prop} {x1 x2 x3 x4 : Int32} {P : Nat} (hP : sy_P P) (hp : post 1 ()) : wL_lawOf_68 post mc ms x1 x2 x3 x4 (nI P) (nI (sy_lim P)) kc ks sh ho (nI P) 0 0 kn 0 a1 a2 a3 a4 a5 a6 a7 a8 a9 a10 a11 a12 a13 a14 := by
  have e : nI (sy_lim P) / (nI P + 1) * nI P = nI (sy_start P) := by
    rcases hP with rfl | rfl | rfl | rfl <;> decide +kernel
  have n : ¬ nI P + 1 = 0 := by
    rcases hP with rfl | rfl | rfl | rfl <;> decide +kernel
  unfold wL_lawOf_68
  refine ⟨n, nm_r e (br_c (fun h1 => ?_) (fun h1 => br_c (fun h2 => br_c (fun h3 => ?_) (fun h3 => br_c (fun h4 => br_c (fun h5 => ?_) (fun h5 => br_c (fun h6 => ?_) (fun h6 => ?_))) (fun h4 => ?_))) (fun h2 => ?_)))⟩
  · unfold wL_lawOf_94
    refine sy_130n hP hp (by decide) (fun pos2 h => ?_)
    unfold wpX_addAlarm
    exact br_t h1 h
  · unfold wL_lawOf_110
    refine sy_130n hP hp (by decide) (fun pos2 h => ?_)
    unfold wpX_addAlarm
    exact br_f h1 (br_t h2 (br_t h3 h))
  · unfold wL_lawOf_126
    refine sy_130n hP hp (by decide) (fun pos2 h => ?_)
    unfold wpX_addAlarm
    exact br_f h1 (br_t h2 (br_f h3 (br_t h4 (br_t h5 h))))
  · exact sy_130y hP hp h1 h2 h3 h4 h5 h6
  · unfold wL_lawOf_126
    refine sy_130n hP hp (by decide) (fun pos2 h => ?_)
    unfold wpX_addAlarm
    exact br_f h1 (br_t h2 (br_f h3 (br_t h4 (br_f h5 (br_f h6 h)))))
  · unfold wL_lawOf_110
    refine sy_130n hP hp (by decide) (fun pos2 h => ?_)
    unfold wpX_addAlarm
    exact br_f h1 (br_t h2 (br_f h3 (br_f h4 h)))
  · unfold wL_lawOf_94
    refine sy_130n hP hp (by decide) (fun pos2 h => ?_)
    unfold wpX_addAlarm
    exact br_f h1 (br_f h2 h)
theorem sy_31 {post : Int32 → St0 → Prop} {x1 x2 x3 x4 : Int32} {P : Nat} (hP : sy_P P) (hp : post 1 ()) : wL_lawOf_31 post mc ms x1 x2 x3 x4 (nI P) kc ks sh ho (nI P) 0 0 kn 0 a1 a2 a3 a4 a5 a6 a7 a8 a9 a10 a11 a12 a13 a14 := by
  have t : wL_lawOf_68 post mc ms x1 x2 x3 x4 (nI P) (nI (sy_lim P)) kc ks sh ho (nI P) 0 0 kn 0 a1 a2 a3 a4 a5 a6 a7 a8 a9 a10 a11 a12 a13 a14 := sy_68 hP hp
  unfold wL_lawOf_31
  rcases hP with rfl | rfl | rfl | rfl
  · rw [show nI (sy_lim 1) = 18 by decide +kernel] at t
    exact br_t (by decide +kernel) t
  · rw [show nI (sy_lim 2) = 81 by decide +kernel] at t
    exact br_f (by decide +kernel) (br_t (by decide +kernel) t)
  · rw [show nI (sy_lim 3) = 324 by decide +kernel] at t
    exact br_f (by decide +kernel) (br_f (by decide +kernel) (br_t (by decide +kernel) t))
  · rw [show nI (sy_lim 4) = 1215 by decide +kernel] at t
    exact br_f (by decide +kernel) (br_f (by decide +kernel) (br_f (by decide +kernel) t))
theorem sy_22 {post : Int32 → St0 → Prop} {x1 x2 x3 x4 : Int32} {P : Nat} (hP : sy_P P) (hp : post 1 ()) : wL_lawOf_22 post mc ms x1 x2 x3 x4 (nI P) kc ks sh ho (nI P) 0 0 kn 0 a1 a2 a3 a4 a5 a6 a7 a8 a9 a10 a11 a12 a13 a14 := by
  unfold wL_lawOf_22
  refine br_t ?_ (sy_31 hP hp)
  rcases hP with rfl | rfl | rfl | rfl <;> decide +kernel
theorem sy_ofP {p : Int32} (h1 : 1 ≤ p) (h4 : p ≤ 4) : ∃ P : Nat, sy_P P ∧ p = nI P := by
  have h0 : ¬ p < 0 := by
    rw [Int32.lt_iff_toInt_lt]
    rw [Int32.le_iff_toInt_le] at h1
    rw [show (1 : Int32).toInt = 1 by decide +kernel] at h1
    rw [show (0 : Int32).toInt = 0 by decide +kernel]
    omega
  obtain ⟨j, hj, rfl⟩ := nI_of2 (n := 4) (by decide +kernel) h0 h4
  have hj' : j = 0 ∨ j = 1 ∨ j = 2 ∨ j = 3 ∨ j = 4 := by omega
  rcases hj' with rfl | hj'
  · exact absurd h1 (by decide +kernel)
  · exact ⟨j, hj', rfl⟩
theorem sy_lawOf {p0 p1 p2 p3 p4 : Int32} : wpL_lawOf (fun r _ => r = 1) 15 1020 () p0 p1 p2 p3 p4 := by
  unfold wpL_lawOf
  refine ⟨by omega, by omega, 14, 999, by omega, by omega, ?_⟩
  unfold wpX_init
  dsimp only
  refine ⟨by omega, by omega, by omega, by omega, by omega, by omega, by omega, by omega, by omega, by omega, by omega, by omega, by omega, by omega, by omega, by omega, by omega, by omega, by omega, by omega, by omega, by omega, by omega, by omega, by omega, by omega, by omega, by omega, ?_⟩
  unfold wX_init_126
  by_cases h1 : 1 ≤ p0
  · refine br_t h1 ?_
    by_cases h4 : p0 ≤ 4
    · refine br_t h4 (br_t h1 ?_)
      obtain ⟨P, hP, rfl⟩ := sy_ofP h1 h4
      exact sy_22 hP rfl
    · refine br_f h4 (br_t h1 ?_)
      unfold wL_lawOf_22
      exact br_f h4 (sy_31 (P := 4) (Or.inr (Or.inr (Or.inr rfl))) rfl)
  · refine br_f h1 (br_t (by decide +kernel) (br_f h1 ?_))
    exact sy_22 (P := 1) (Or.inl rfl) rfl
theorem sy_cell {post : Int32 → Prop} {L k : Nat} {xs : Nat → Int32} {x : Int32} (hL : L ≤ 5) (hk : k < 5) (hx : x = nI k) (H : ∀ v, post v) : wpL_cellAt post L xs () x := by
  unfold wpL_cellAt
  exact pk_le L k (fun _ => H 0) (fun z => ⟨pk_in k L z hx, H _⟩) rfl hx
theorem i_vc (xs : Nat → Int32) (L : Nat) (hL : L ≤ 5) : wpL_law (fun r => r = 1) L xs := by
  unfold wpL_law
  refine sy_cell (k := 0) hL (by omega) rfl (fun r1 => ?_)
  refine sy_cell (k := 1) hL (by omega) rfl (fun r2 => ?_)
  refine sy_cell (k := 2) hL (by omega) rfl (fun r3 => ?_)
  refine sy_cell (k := 3) hL (by omega) rfl (fun r4 => ?_)
  refine sy_cell (k := 4) hL (by omega) rfl (fun r5 => ?_)
  exact ⟨15, 1020, by omega, by omega, sy_lawOf⟩
end
end
