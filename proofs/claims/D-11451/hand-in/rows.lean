section
/-- D is the number of decimal digits of m -/
def pm_dg (m D : Nat) : Prop := 1 ≤ D ∧ D ≤ 10 ∧ m < 10 ^ D ∧ (D = 1 ∨ 10 ^ (D - 1) ≤ m)
/-- an int v: its sign o (1: below zero) and its magnitude m -/
def pm_v (v : Int32) (o m : Nat) : Prop := m ≤ 2147483648 ∧ ((o = 0 ∧ 0 ≤ v ∧ m < 2147483648 ∧ v = nI m ∧ v.toInt64 = lN m) ∨ (o = 1 ∧ ¬ 0 ≤ v ∧ v.toInt = -(m : Int) ∧ -v.toInt64 = lN m))
theorem pm_ex (v : Int32) : ∃ o m, pm_v v o m := by
  by_cases h : 0 ≤ v
  · have h' : ¬ v < 0 := by
      have a := Jvm.Kit.i32_nonneg.mp h
      intro z
      rw [Int32.lt_iff_toInt_lt, Int32.toInt_zero] at z
      omega
    obtain ⟨j, hj, e⟩ := nI_of h'
    exact ⟨0, j, by omega, Or.inl ⟨rfl, h, by omega, e, by rw [e]; exact nI_l hj⟩⟩
  · have a : v.toInt < 0 := by
      rcases Int.lt_or_le v.toInt 0 with z | z
      · exact z
      · exact absurd (Jvm.Kit.i32_nonneg.mpr z) h
    have b := v.le_toInt
    have hm : ((v.toInt.natAbs : Nat) : Int) = -v.toInt := by omega
    refine ⟨1, v.toInt.natAbs, by omega, Or.inr ⟨rfl, h, by omega, ?_⟩⟩
    apply Int64.toInt_inj.mp
    have e : v.toInt64.toInt = v.toInt := Jvm.Kit.i64_of_i32 v
    rw [Jvm.Kit.i64_neg (by rw [e]; omega), e, pk_lT (by omega), hm]
/-- the last digit, as the law takes it -/
theorem pm_last {A : Int32 → Prop} {v : Int32} {o m : Nat} (h : pm_v v o m) (H : A (nI (m % 10))) :
    (0 ≤ (v - v / 10 * 10) → (¬ (10 : Int32) = 0 ∧ A (v - v / 10 * 10))) ∧ (¬ 0 ≤ (v - v / 10 * 10) → (¬ (10 : Int32) = 0 ∧ A (-(v - v / 10 * 10)))) := by
  obtain ⟨hm, ⟨_, _, hm', e, _⟩ | ⟨_, _, e, _⟩⟩ := h
  · have r : v - v / 10 * 10 = nI (m % 10) := by
      rw [e]
      exact pk_rem (d := 10) (by omega) (by decide) (by decide)
    rw [r]
    exact br_t (nI_pos' (by omega)) ⟨by decide, H⟩
  · have t10 : (10 : Int32).toInt = 10 := by decide
    have r : (v - v / 10 * 10).toInt = -((m % 10 : Nat) : Int) := by
      rw [rem_toInt, e, t10, Int.neg_tmod, Int.tmod_eq_emod_of_nonneg (by omega)]
      omega
    refine br_c (fun z => ⟨by decide, ?_⟩) (fun z => ⟨by decide, ?_⟩)
    · have z' := Jvm.Kit.i32_nonneg.mp z
      have e' : v - v / 10 * 10 = nI (m % 10) := by
        apply Int32.toInt_inj.mp
        rw [r, nI_toInt (by omega)]
        omega
      rw [e']
      exact H
    · have e' : -(v - v / 10 * 10) = nI (m % 10) := by
        apply Int32.toInt_inj.mp
        rw [Jvm.Kit.i32_neg (by rw [r]; omega), r, nI_toInt (by omega)]
        omega
      rw [e']
      exact H
theorem pm_lle {x : Int64} {A B : Prop} (a m : Nat) (f : a ≤ m → A) (g : m < a → B) (hx : x = lN a := by rfl) (ha : a < 2 ^ 63 := by omega) (hm : m < 2 ^ 63 := by omega) : (x ≤ lN m → A) ∧ (¬ x ≤ lN m → B) := by
  subst hx
  rw [pk_lLE ha hm]
  exact ⟨f, fun z => g (by omega)⟩
/-- one digit as a char -/
theorem pm_chr {q : Nat} (hq : q ≤ 2147483648) : ((48 + ((lN q - lN q / 10 * 10).toInt32)).toUInt32 % 65536).toInt32 = nI (48 + q % 10) := by
  have r : lN q - lN q / 10 * 10 = lN (q % 10) := pk_lRem (b := 10) (by omega) (by decide) (by decide)
  have s : (48 : Int32) + nI (q % 10) = nI (48 + q % 10) := nI_add 48 (q % 10)
  rw [r, lN_i, s, pk_char, pk_tn (by omega), Nat.mod_eq_of_lt (by omega)]
theorem pm_div {q : Nat} (hq : q ≤ 2147483648) : lN q / 10 = lN (q / 10) := pk_lDiv (b := 10) (by omega) (by decide) (by decide)
theorem pm_pow (m k : Nat) : m / 10 ^ k / 10 = m / 10 ^ (k + 1) := by rw [Nat.div_div_eq_div_mul, Nat.pow_succ]
theorem pm_pos {m D k : Nat} (h : pm_dg m D) (hk : k < D) (h0 : k ≠ 0) : 0 < m / 10 ^ k := by
  obtain ⟨_, _, _, h4⟩ := h
  have h5 : 10 ^ (D - 1) ≤ m := by
    rcases h4 with z | z
    · omega
    · exact z
  exact Nat.div_pos (Nat.le_trans (Nat.pow_le_pow_right (by decide) (by omega)) h5) (Nat.pow_pos (by decide))
theorem pm_end {m D : Nat} (h : pm_dg m D) : m / 10 ^ D = 0 := Nat.div_eq_of_lt h.2.2.1
/-- the first digit: above zero if there are two or more -/
theorem pm_top {m D : Nat} (h : pm_dg m D) (hm : 10 ≤ m) : m / 10 ^ (D - 1) % 10 ≠ 0 := by
  have hD : D ≠ 1 := by
    intro z
    have := h.2.2.1
    rw [z] at this
    omega
  have h1 := h.1
  have p : 0 < m / 10 ^ (D - 1) := pm_pos h (by omega) (by omega)
  have u : m / 10 ^ (D - 1) < 10 := by
    apply Nat.div_lt_of_lt_mul
    have := h.2.2.1
    rw [← Nat.pow_succ]
    rwa [show (D - 1).succ = D by omega]
  omega
theorem pm_vc {c : Nat} (hc : c < 65536) : vp_nar .char (nI c) = nI c := Value.int.inj (pk_charN hc).1
theorem pm_c4 : ∀ i, i < 4 → ((48 + nI i).toUInt32 % 65536).toInt32 = nI (48 + i) := by decide +kernel
theorem pm_d4 : ∀ i, i < 4 → nI (48 + i) - 48 = nI i := by decide +kernel
theorem pm_o4 : ∀ i, i < 4 → ((nI i).toUInt32 % 65536).toInt32 = nI i := by decide +kernel
theorem pm_or4 : ∀ i, i < 4 → (0 : Int32) ||| ((1 : Int32) <<< (nI i &&& 31)) = (1 : Int32) <<< (nI i &&& 31) := by decide +kernel
end
section
theorem pm_87 {post : Int32 → Prop} {x0 : Int32} {m : Nat} (hm : m ≤ 2147483648) (h6 : 1000000 ≤ m) (H : ∀ D, pm_dg m D → wL_digits_134 post x0 (nI D)) : wL_digits_87 post x0 (lN m) 0 :=
  br_t rfl (pm_lle 10000000 m (fun h7 => pm_lle 100000000 m (fun h8 => pm_lle 1000000000 m
      (fun h9 => H 10 ⟨by decide, by decide, show m < 10000000000 by omega, Or.inr (show 1000000000 ≤ m by omega)⟩)
      (fun h9 => H 9 ⟨by decide, by decide, show m < 1000000000 by omega, Or.inr (show 100000000 ≤ m by omega)⟩))
      (fun h8 => H 8 ⟨by decide, by decide, show m < 100000000 by omega, Or.inr (show 10000000 ≤ m by omega)⟩))
      (fun h7 => H 7 ⟨by decide, by decide, show m < 10000000 by omega, Or.inr (show 1000000 ≤ m by omega)⟩))
theorem pm_12 {post : Int32 → Prop} {x0 : Int32} {m : Nat} (hm : m ≤ 2147483648) (H : ∀ D, pm_dg m D → wL_digits_134 post x0 (nI D)) : wL_digits_12 post x0 (lN m) :=
  pm_lle 10 m (fun h1 => pm_lle 100 m (fun h2 => pm_lle 1000 m (fun h3 => pm_lle 10000 m (fun h4 => pm_lle 100000 m (fun h5 => pm_lle 1000000 m
    (fun h6 => pm_87 hm h6 H)
    (fun h6 => br_f (by decide) (H 6 ⟨by decide, by decide, show m < 1000000 by omega, Or.inr (show 100000 ≤ m by omega)⟩)))
    (fun h5 => br_f (by decide) (H 5 ⟨by decide, by decide, show m < 100000 by omega, Or.inr (show 10000 ≤ m by omega)⟩)))
    (fun h4 => br_f (by decide) (H 4 ⟨by decide, by decide, show m < 10000 by omega, Or.inr (show 1000 ≤ m by omega)⟩)))
    (fun h3 => br_f (by decide) (H 3 ⟨by decide, by decide, show m < 1000 by omega, Or.inr (show 100 ≤ m by omega)⟩)))
    (fun h2 => br_f (by decide) (H 2 ⟨by decide, by decide, show m < 100 by omega, Or.inr (show 10 ≤ m by omega)⟩)))
    (fun h1 => br_f (by decide) (H 1 ⟨by decide, by decide, show m < 10 by omega, Or.inl rfl⟩))
/-- digits(v): its answer is the length of v as a text -/
theorem pm_digits {post : Int32 → Prop} {v : Int32} {o m : Nat} (h : pm_v v o m) (H : ∀ D, pm_dg m D → post (nI (o + D))) : wpL_digits post () v := by
  obtain ⟨hm, ⟨ho, h0, _, _, e⟩ | ⟨ho, h0, _, e⟩⟩ := h
  · refine br_t h0 ?_
    rw [e]
    refine pm_12 hm (fun D hD => br_t h0 ?_)
    have t := H D hD
    rwa [ho, Nat.zero_add] at t
  · refine br_f h0 ?_
    rw [e]
    refine pm_12 hm (fun D hD => br_f h0 ?_)
    have t := H D hD
    rw [nI_1]
    rwa [ho, Nat.add_comm] at t
end
section
section
variable {rs tl cp sd ns ce cc bc pt oc ab ol ov la cs : Int32} {a1 a2 a3 a4 a5 a6 a7 a8 a9 a10 a11 a12 a13 a14 a15 a16 : Nat → Int32}
theorem pm_init {post : St2 → Prop} {p0 : Int32} (H : ∀ R : Int32, post (R, 0, 0, 0, 0, 0, 0, 0, 0, 0, 0, 0, 0, 0, 0, (fun _ => 0), (fun _ => 0), (fun _ => 0), (fun _ => 0), (fun _ => 0), (fun _ => 0), (fun _ => 0), (fun _ => 0), (fun _ => 0), (fun _ => 0), (fun _ => 0), (fun _ => 0), (fun _ => 0), (fun _ => 0), (fun _ => 0), (fun _ => 0))) :
    wpX_init post 16 697 (0, 0, 0, 0, 0, 0, 0, 0, 0, 0, 0, 0, 0, 0, 0) p0 :=
  ⟨by decide, by decide, by decide, by decide, by decide, by decide, by decide, by decide, by decide, by decide, by decide, by decide, by decide, by decide, by decide, by decide, by decide, by decide, by decide, by decide, by decide, by decide, by decide, by decide, by decide, by decide, by decide, by decide, by decide, by decide, by decide, by decide,
    br_c (fun _ => br_c (fun _ => H _) (fun _ => H _)) (fun _ => H _)⟩
theorem pm_set {post : Int32 → St2 → Prop} {i : Nat} {v : Int32} (hi : i < 4) (H : post 1 (rs, tl, cp, sd, ns, ce, cc, bc, pt, oc, ab, ol, ov, la, cs, a1, upd a2 i v, a3, a4, a5, a6, a7, a8, a9, a10, a11, a12, a13, a14, a15, a16)) : wpX_set post (rs, tl, cp, sd, ns, ce, cc, bc, pt, oc, ab, ol, ov, la, cs, a1, a2, a3, a4, a5, a6, a7, a8, a9, a10, a11, a12, a13, a14, a15, a16) (nI i) v :=
  br_f (nI_pos (by omega)) (pk_le i 3 (fun _ => ⟨pk_in i 4 hi, nm_r (by rw [nI_clamp (by omega)]) H⟩) (fun z => absurd z (by omega)))
theorem pm_30 {post : Int32 → St2 → Prop} {n c : Nat} (hn : n < 96) (hc : c < 65536) (H : post (nI (n + 1)) (rs, nI (n + 1), 0, sd, ns, ce, cc, bc, pt, oc, ab, ol, ov, la, cs, upd a1 n (nI c), a2, a3, a4, a5, a6, a7, a8, a9, a10, a11, a12, a13, a14, a15, a16)) : wX_type_30 post (nI c) rs (nI n) cp sd ns ce cc bc pt oc ab ol ov la cs a1 a2 a3 a4 a5 a6 a7 a8 a9 a10 a11 a12 a13 a14 a15 a16 :=
  ⟨pk_in n 96 hn, nm_r (by rw [nI_clamp (by omega), pm_vc hc]) (nm_r (nI_1 n) H)⟩
/-- type(c) for a sign: '{' or '}' -/
theorem pm_tySign {post : Int32 → St2 → Prop} {n c : Nat} (hn : n < 96) (hc : c = 123 ∨ c = 125) (H : post (nI (n + 1)) (rs, nI (n + 1), 0, sd, ns, ce, cc, bc, pt, oc, ab, ol, ov, la, cs, upd a1 n (nI c), a2, a3, a4, a5, a6, a7, a8, a9, a10, a11, a12, a13, a14, a15, a16)) : wpX_type post (rs, nI n, cp, sd, ns, ce, cc, bc, pt, oc, ab, ol, ov, la, cs, a1, a2, a3, a4, a5, a6, a7, a8, a9, a10, a11, a12, a13, a14, a15, a16) (nI c) := by
  have k : wX_type_30 post (nI c) rs (nI n) cp sd ns ce cc bc pt oc ab ol ov la cs a1 a2 a3 a4 a5 a6 a7 a8 a9 a10 a11 a12 a13 a14 a15 a16 := pm_30 hn (by omega) H
  refine pk_lt n 96 (fun _ => ?_) (fun z => absurd z (by omega))
  rcases hc with rfl | rfl
  · exact br_f (by decide) (br_t (by decide) (br_t rfl (br_f (by decide) (br_t (by decide) (br_t rfl (br_f (by decide) (br_f (by decide) (br_f (by decide) (br_f (by decide) (br_f (by decide) (br_t rfl (br_f (by decide) (br_t (by decide) (br_f (by decide) k))))))))))))))
  · exact br_f (by decide) (br_t (by decide) (br_t rfl (br_f (by decide) (br_t (by decide) (br_t rfl (br_f (by decide) (br_f (by decide) (br_f (by decide) (br_f (by decide) (br_f (by decide) (br_t rfl (br_f (by decide) (br_f (by decide) (br_t (by decide) (br_f (by decide) k)))))))))))))))
/-- type(c) for a digit -/
theorem pm_tyDig {post : Int32 → St2 → Prop} {n c : Nat} (hn : n < 96) (h1 : 48 ≤ c) (h2 : c ≤ 57) (H : post (nI (n + 1)) (rs, nI (n + 1), 0, sd, ns, ce, cc, bc, pt, oc, ab, ol, ov, la, cs, upd a1 n (nI c), a2, a3, a4, a5, a6, a7, a8, a9, a10, a11, a12, a13, a14, a15, a16)) : wpX_type post (rs, nI n, cp, sd, ns, ce, cc, bc, pt, oc, ab, ol, ov, la, cs, a1, a2, a3, a4, a5, a6, a7, a8, a9, a10, a11, a12, a13, a14, a15, a16) (nI c) :=
  pk_lt n 96 (fun _ => pk_lt c 97 (fun _ => br_t rfl (pk_lt c 48 (fun z => absurd z (by omega)) (fun _ => pk_lt 57 c (fun z => absurd z (by omega)) (fun _ => br_f (by decide) (br_f (by decide) (pm_30 hn (by omega) H)))))) (fun z => absurd z (by omega))) (fun z => absurd z (by omega))
theorem pm_next {post : Int32 → Prop} {d : Int32} {k c : Nat} (ht : ¬ tl ≤ pt + d) (hk : pt + d = nI k) (h96 : k < 96) (hc : c < 65536) (ha : a1 k = nI c) (H : post (nI c)) : wpX_next post (rs, tl, cp, sd, ns, ce, cc, bc, pt, oc, ab, ol, ov, la, cs, a1, a2, a3, a4, a5, a6, a7, a8, a9, a10, a11, a12, a13, a14, a15, a16) d := by
  have e : a1 (pt + d).toNatClampNeg = nI c := by rw [hk, nI_clamp (by omega)]; exact ha
  refine br_f ht ⟨pk_in k 96 h96 hk, ?_, ?_⟩
  · rw [e]; exact (pk_charN hc).1
  · rw [e]; exact H
theorem pm_brace0 {post : Int32 → St2 → Prop} {i : Nat} (hi : i < 4) (h1 : a1 1 = nI (48 + i)) (H : post 0 (rs, 2, cp, sd, ns, ce, cc, bc, 0, 0, ab, ol, ov, la, cs, a1, a2, a3, a4, a5, a6, a7, a8, a9, a10, a11, a12, a13, a14, a15, a16)) : wpX_readBrace post (rs, 2, cp, sd, ns, ce, cc, bc, 0, 0, ab, ol, ov, la, cs, a1, a2, a3, a4, a5, a6, a7, a8, a9, a10, a11, a12, a13, a14, a15, a16) := by
  unfold wpX_readBrace
  refine pm_next (k := 1) (c := 48 + i) (by decide) (by decide) (by decide) (by omega) h1 (nm_r (pm_d4 i hi) (br_t (by decide) ?_))
  exact br_f (by decide) (br_f (nI_pos (by omega)) (pk_le i 3 (fun _ => br_f (by decide) (br_f (by decide) (br_f (by decide) H))) (fun z => absurd z (by omega))))
theorem pm_brace1 {post : Int32 → St2 → Prop} {i : Nat} (hi : i < 4) (h1 : a1 1 = nI (48 + i)) (h2 : a1 2 = 125)
    (H : ∀ s : Int32, post 1 (rs, 3, cp, sd, s, 1, cc, bc, 3, 0, ab, ol, ov, la, cs, a1, a2, upd a3 0 1, upd a4 0 (nI i), a5, a6, a7, a8, a9, a10, a11, a12, a13, a14, a15, a16)) : wpX_readBrace post (rs, 3, cp, sd, ns, 0, cc, bc, 0, 0, ab, ol, ov, la, cs, a1, a2, a3, a4, a5, a6, a7, a8, a9, a10, a11, a12, a13, a14, a15, a16) := by
  unfold wpX_readBrace
  refine pm_next (k := 1) (c := 48 + i) (by decide) (by decide) (by decide) (by omega) h1 (nm_r (pm_d4 i hi) ?_)
  refine pm_next (k := 2) (c := 125) (by decide) (by decide) (by decide) (by decide) h2 ?_
  refine br_f (by decide) (br_f (nI_pos (by omega)) (pk_le i 3 (fun _ => br_t rfl ?_) (fun z => absurd z (by omega))))
  refine nm_e (nm_r (e' := 3) (by decide) (br_t rfl ?_))
  refine ⟨pk_in 0 100 (by decide), nm_r (e' := upd a3 0 1) (by rfl) ⟨pk_in 0 100 (by decide), nm_r (e' := upd a4 0 (nI i)) ?_ (nm_r (e' := 1) (by decide) (H _))⟩⟩
  rw [pm_o4 i hi]
  rfl
theorem pm_comp0 {post : St2 → Prop} {i : Nat} (hi : i < 4) (h0 : a1 0 = 123) (h1 : a1 1 = nI (48 + i)) (H : post (rs, 2, 1, 0, 0, 0, 0, 0, 0, 0, 0, ol, ov, la, cs, a1, a2, a3, a4, a5, a6, a7, a8, a9, a10, a11, a12, a13, upd a14 0 (-1), a15, a16)) : wpX_compile post (rs, 2, 0, sd, ns, ce, cc, bc, pt, oc, ab, ol, ov, la, cs, a1, a2, a3, a4, a5, a6, a7, a8, a9, a10, a11, a12, a13, a14, a15, a16) := by
  refine br_t rfl (nm_e ⟨2, ?_⟩)
  refine br_f (by decide) (br_f (by decide) (br_t rfl ?_))
  refine ⟨pk_in 0 96 (by decide), nm_r (e' := 123) h0 (br_t rfl ?_)⟩
  exact pm_brace0 hi h1 ⟨by rfl, br_t rfl (br_t rfl H)⟩
theorem pm_comp1 {post : St2 → Prop} {i : Nat} (hi : i < 4) (h0 : a1 0 = 123) (h1 : a1 1 = nI (48 + i)) (h2 : a1 2 = 125) (H : ∀ s : Int32, post (rs, 3, 1, 1, s, 1, 0, 0, 3, 0, 0, ol, ov, la, cs, a1, a2, upd a3 0 1, upd a4 0 (nI i), a5, a6, a7, a8, a9, a10, a11, a12, a13, upd a14 0 (-1), a15, a16)) : wpX_compile post (rs, 3, 0, sd, ns, ce, cc, bc, pt, oc, ab, ol, ov, la, cs, a1, a2, a3, a4, a5, a6, a7, a8, a9, a10, a11, a12, a13, a14, a15, a16) := by
  refine br_t rfl (nm_e ⟨2, ?_⟩)
  refine br_f (by decide) (br_f (by decide) (br_t rfl ?_))
  refine ⟨pk_in 0 96 (by decide), nm_r (e' := 123) h0 (br_t rfl ?_)⟩
  exact pm_brace1 hi h1 h2 (fun s => ⟨by rfl, br_f (by decide) (br_t (by decide) (br_f (by decide) (br_t rfl (H s))))⟩)
end
end
section
section
variable {rs tl cp sd ns ce cc bc pt oc ab ol ov la cs : Int32} {a1 a2 a3 a4 a5 a6 a7 a8 a9 a10 a11 a12 a13 a14 a15 a16 : Nat → Int32}
theorem pm_put {post : St2 → Prop} {n : Nat} {c : Int32} (hn : n < 120) (hc : vp_nar .char c = c) (H : post (rs, tl, cp, sd, ns, ce, cc, bc, pt, oc, ab, nI (n + 1), ov, la, cs, a1, a2, a3, a4, a5, a6, a7, a8, a9, a10, a11, a12, a13, a14, upd a15 n c, a16)) : wpX_put post (rs, tl, cp, sd, ns, ce, cc, bc, pt, oc, ab, nI n, ov, la, cs, a1, a2, a3, a4, a5, a6, a7, a8, a9, a10, a11, a12, a13, a14, a15, a16) c :=
  pk_eq n 120 (fun z => absurd z (by omega)) (fun _ => ⟨pk_in n 120 hn, nm_r (by rw [nI_clamp (by omega), hc]) (nm_r (nI_1 n) H)⟩)
/-- the second loop: the digits are put out, the highest first -/
theorem pm_100 {post : St2 → Prop} {o D m : Nat} (ho : o ≤ 1) (hD : D ≤ 10) (ha : ∀ j, j < D → a16 j = nI (48 + m / 10 ^ j % 10))
    (H : ∀ s : Nat → Int32, (∀ j, j < o → s j = a15 j) → (∀ j, j < D → s (o + j) = nI (48 + m / 10 ^ (D - 1 - j) % 10)) → post (rs, tl, cp, sd, ns, ce, cc, bc, pt, oc, ab, nI (o + D), ov, la, cs, a1, a2, a3, a4, a5, a6, a7, a8, a9, a10, a11, a12, a13, a14, s, a16)) :
    ∃ n, wX_putNumber_100 post n (nI D - 1) rs tl cp sd ns ce cc bc pt oc ab (nI o) ov la cs a1 a2 a3 a4 a5 a6 a7 a8 a9 a10 a11 a12 a13 a14 a15 a16 := by
  have t := pk_loopD (fun n i s => wX_putNumber_100 post n (nI i - 1) rs tl cp sd ns ce cc bc pt oc ab (nI (o + (D - i))) ov la cs a1 a2 a3 a4 a5 a6 a7 a8 a9 a10 a11 a12 a13 a14 s a16)
    (fun i s => i ≤ D ∧ (∀ j, j < o → s j = a15 j) ∧ ∀ j, j < D - i → s (o + j) = nI (48 + m / 10 ^ (D - 1 - j) % 10)) ?_ ?_ D a15
    ⟨Nat.le_refl D, fun j _ => rfl, fun j hj => absurd hj (by omega)⟩
  · rw [Nat.sub_self, Nat.add_zero] at t
    exact ⟨_, t⟩
  · intro n s h
    exact br_t (by decide) (H s h.2.1 h.2.2)
  · intro n i s h hw
    obtain ⟨h1, h2, h3⟩ := h
    show wX_putNumber_100 post (n + 1) (nI (i + 1) - 1) rs tl cp sd ns ce cc bc pt oc ab (nI (o + (D - (i + 1)))) ov la cs a1 a2 a3 a4 a5 a6 a7 a8 a9 a10 a11 a12 a13 a14 s a16
    rw [nI_pred]
    have e : a16 (nI i).toNatClampNeg = nI (48 + m / 10 ^ i % 10) := by rw [nI_clamp (by omega)]; exact ha i (by omega)
    refine br_f (nI_pos (by omega)) ⟨pk_in i 10 (by omega), ?_⟩
    rw [e]
    refine pm_put (by omega) (pm_vc (by omega)) (nm_r (e' := nI i - 1) (by rw [Int32.sub_eq_add_neg]) ?_)
    have w := hw (upd s (o + (D - (i + 1))) (nI (48 + m / 10 ^ i % 10))) ⟨by omega, fun j hj => by rw [pk_un (by omega)]; exact h2 j hj, fun j hj => ?_⟩
    · rw [show o + (D - i) = o + (D - (i + 1)) + 1 by omega] at w
      exact w
    · by_cases ej : j = D - (i + 1)
      · rw [ej, pk_us, show D - 1 - (D - (i + 1)) = i by omega]
      · rw [pk_un (by omega)]
        exact h3 j (by omega)
/-- the first loop: the digits are taken off, the lowest first -/
theorem pm_41 {post : St2 → Prop} {o D m : Nat} (ho : o ≤ 1) (hm : m ≤ 2147483648) (hD : pm_dg m D)
    (H : ∀ s t : Nat → Int32, (∀ j, j < o → s j = a15 j) → (∀ j, j < D → s (o + j) = nI (48 + m / 10 ^ (D - 1 - j) % 10)) → post (rs, tl, cp, sd, ns, ce, cc, bc, pt, oc, ab, nI (o + D), ov, la, cs, a1, a2, a3, a4, a5, a6, a7, a8, a9, a10, a11, a12, a13, a14, s, t)) :
    ∃ n, wX_putNumber_41 post rs tl cp sd ns ce cc bc pt oc ab (nI o) ov la cs n (lN m) 0 0 a1 a2 a3 a4 a5 a6 a7 a8 a9 a10 a11 a12 a13 a14 a15 a16 := by
  have hD1 := hD.1
  have hD2 := hD.2.1
  have t := pk_loop (fun n i s => wX_putNumber_41 post rs tl cp sd ns ce cc bc pt oc ab (nI o) ov la cs n (lN (m / 10 ^ i)) (nI i) (nI i) a1 a2 a3 a4 a5 a6 a7 a8 a9 a10 a11 a12 a13 a14 a15 s)
    (fun i s => ∀ j, j < i → s j = nI (48 + m / 10 ^ j % 10)) D 0 a16 (by omega) (fun j hj => absurd hj (by omega)) ?_ ?_
  · obtain ⟨n, t⟩ := t
    rw [Nat.pow_zero, Nat.div_one] at t
    exact ⟨n, t⟩
  · intro n s h
    have x : ∃ n, wX_putNumber_100 post n (nI D - 1) rs tl cp sd ns ce cc bc pt oc ab (nI o) ov la cs a1 a2 a3 a4 a5 a6 a7 a8 a9 a10 a11 a12 a13 a14 a15 s := pm_100 ho hD2 h (fun q => H q s)
    refine pk_le 10 D (fun _ => nm_e x) (fun _ => br_f ?_ (pk_eq D 0 (fun z => absurd z (by omega)) (fun _ => nm_e x)))
    rw [pm_end hD]
    decide
  · intro n i s hi h hw
    have hq : m / 10 ^ i ≤ 2147483648 := Nat.le_trans (Nat.div_le_self _ _) hm
    have b : wX_putNumber_59 post (wX_putNumber_41 post rs tl cp sd ns ce cc bc pt oc ab (nI o) ov la cs n) (lN (m / 10 ^ i)) (nI i) rs tl cp sd ns ce cc bc pt oc ab (nI o) ov la cs a1 a2 a3 a4 a5 a6 a7 a8 a9 a10 a11 a12 a13 a14 a15 s := by
      refine ⟨by decide, pk_in i 10 (by omega), nm_r (e' := upd s i (nI (48 + m / 10 ^ i % 10))) ?_ ⟨by decide, nm_r (e' := lN (m / 10 ^ (i + 1))) ?_ (nm_r (nI_1 i) (nm_r (nI_1 i) (hw _ ?_)))⟩⟩
      · rw [nI_clamp (by omega), pm_chr hq]
      · rw [pm_div hq, pm_pow]
      · intro j hj
        by_cases ej : j = i
        · rw [ej, pk_us]
        · rw [pk_un ej]
          exact h j (by omega)
    refine pk_le 10 i (fun z => absurd z (by omega)) (fun _ => br_c (fun _ => b) (fun z => pk_eq i 0 (fun _ => b) (fun z0 => absurd ?_ z)))
    have p := pm_pos hD hi z0
    exact (pk_lLT (a := 0) (by decide) (by omega)).mpr p
/-- putNumber(i): the text of argument i, its sign o and its D digits -/
theorem pm_num {post : St2 → Prop} {i o D m : Nat} (hi : i < 4) (hv : pm_v (a2 i) o m) (hD : pm_dg m D)
    (H : ∀ s t : Nat → Int32, (o = 1 → s 0 = 45) → (∀ j, j < D → s (o + j) = nI (48 + m / 10 ^ (D - 1 - j) % 10)) → post (rs, tl, cp, sd, ns, ce, cc, bc, pt, oc, ab, nI (o + D), ov, la ||| ((1 : Int32) <<< (nI i &&& 31)), cs, a1, a2, a3, a4, a5, a6, a7, a8, a9, a10, a11, a12, a13, a14, s, t)) :
    wpX_putNumber post (rs, tl, cp, sd, ns, ce, cc, bc, pt, oc, ab, 0, ov, la, cs, a1, a2, a3, a4, a5, a6, a7, a8, a9, a10, a11, a12, a13, a14, a15, a16) (nI i) := by
  refine nm_e ⟨pk_in i 4 hi, nm_r (e' := a2 i) (by rw [nI_clamp (by omega)]) ?_⟩
  obtain ⟨hm, ⟨rfl, h0, _, _, e⟩ | ⟨rfl, h0, _, e⟩⟩ := hv
  · refine br_t h0 (br_t h0 ?_)
    rw [e]
    exact pm_41 (o := 0) (by decide) hm hD (fun s t _ hs => H s t (fun z => absurd z (by decide)) hs)
  · refine br_f h0 (br_f h0 (pm_put (n := 0) (c := 45) (by decide) (by rfl) ?_))
    dsimp only
    rw [e]
    exact pm_41 (o := 1) (by decide) hm hD (fun s t hz hs => H s t (fun _ => by rw [hz 0 (by decide), pk_us]) hs)
theorem pm_exec {post : St2 → Prop} {i o D m : Nat} (hi : i < 4) (hv : pm_v (a2 i) o m) (hD : pm_dg m D) (h3 : a3 0 = 1) (h4 : a4 0 = nI i)
    (H : ∀ s t : Nat → Int32, (o = 1 → s 0 = 45) → (∀ j, j < D → s (o + j) = nI (48 + m / 10 ^ (D - 1 - j) % 10)) → post (rs, tl, cp, sd, ns, 1, cc, bc, pt, oc, ab, nI (o + D), 0, (1 : Int32) <<< (nI i &&& 31), cs, a1, a2, a3, a4, a5, a6, a7, a8, a9, a10, a11, a12, a13, a14, s, t)) :
    wpX_execute post (rs, tl, cp, sd, ns, 1, cc, bc, pt, oc, ab, ol, ov, la, cs, a1, a2, a3, a4, a5, a6, a7, a8, a9, a10, a11, a12, a13, a14, a15, a16) := by
  refine ⟨2, br_f (by decide) (br_t rfl ⟨pk_in 0 100 (by decide), nm_r (e' := 1) h3 ⟨pk_in 0 100 (by decide), nm_r (e' := nI i) h4 (nm_r (e' := 1) (by decide) (br_f (by decide) (br_t rfl ?_)))⟩⟩)⟩
  refine pm_num hi hv hD (fun s t hs ht => br_t (by decide) ?_)
  rw [pm_or4 i hi]
  exact H s t hs ht
/-- format() on the text '{', '0' + i: not sound -/
theorem pm_fmt0 {post : Int32 → St2 → Prop} {i : Nat} (hi : i < 4) (h0 : a1 0 = 123) (h1 : a1 1 = nI (48 + i)) (H : post (-3) (rs, 2, 1, 0, 0, 0, 0, 0, 0, 0, 0, ol, ov, la, cs, a1, a2, a3, a4, a5, a6, a7, a8, a9, a10, a11, a12, a13, upd a14 0 (-1), a15, a16)) : wpX_format post (rs, 2, 0, sd, ns, ce, cc, bc, pt, oc, ab, ol, ov, la, cs, a1, a2, a3, a4, a5, a6, a7, a8, a9, a10, a11, a12, a13, a14, a15, a16) :=
  pm_comp0 hi h0 h1 (br_t rfl H)
/-- format() on the text '{', '0' + i, '}' -/
theorem pm_fmt1 {post : Int32 → St2 → Prop} {i o D m : Nat} (hi : i < 4) (h0 : a1 0 = 123) (h1 : a1 1 = nI (48 + i)) (h2 : a1 2 = 125) (hv : pm_v (a2 i) o m) (hD : pm_dg m D)
    (H : ∀ (n : Int32) (s t u w x : Nat → Int32), (o = 1 → s 0 = 45) → (∀ j, j < D → s (o + j) = nI (48 + m / 10 ^ (D - 1 - j) % 10)) → post (nI (o + D)) (rs, 3, 1, 1, n, 1, 0, 0, 3, 0, 0, nI (o + D), 0, (1 : Int32) <<< (nI i &&& 31), (1 : Int32) <<< (nI i &&& 31), a1, a2, u, w, a5, a6, a7, a8, a9, a10, a11, a12, a13, x, s, t)) : wpX_format post (rs, 3, 0, sd, ns, ce, cc, bc, pt, oc, ab, ol, ov, la, cs, a1, a2, a3, a4, a5, a6, a7, a8, a9, a10, a11, a12, a13, a14, a15, a16) :=
  pm_comp1 hi h0 h1 h2 (fun n => br_f (by decide) (pm_exec hi hv hD pk_us pk_us (fun s t hs ht => br_t rfl (H n s t _ _ _ hs ht))))
/-- charAt(k) within the text -/
theorem pm_at {post : Int32 → Prop} {k n : Nat} {x : Int32} (hk : k < n) (hn : n < 120) (h : a15 k = x) (H : post x) : wpX_charAt post (rs, tl, cp, sd, ns, ce, cc, bc, pt, oc, ab, nI n, ov, la, cs, a1, a2, a3, a4, a5, a6, a7, a8, a9, a10, a11, a12, a13, a14, a15, a16) (nI k) := by
  have e : a15 (nI k).toNatClampNeg = x := by rw [nI_clamp (by omega)]; exact h
  refine br_f (nI_pos (by omega)) (pk_lt k n (fun _ => ⟨pk_in k 120 (by omega), ?_⟩) (fun z => absurd z (by omega)))
  rw [e]
  exact H
/-- charAt behind the text -/
theorem pm_out {post : Int32 → Prop} {n : Nat} (hn : n < 120) (H : post (-2)) : wpX_charAt post (rs, tl, cp, sd, ns, ce, cc, bc, pt, oc, ab, nI n, ov, la, cs, a1, a2, a3, a4, a5, a6, a7, a8, a9, a10, a11, a12, a13, a14, a15, a16) (nI n) :=
  br_f (nI_pos (by omega)) (br_f (nI_nlt (Nat.le_refl n) (by omega)) H)
end
end
section
section
variable {rs tl cp sd ns ce cc bc pt oc ab ol ov la cs : Int32} {a1 a2 a3 a4 a5 a6 a7 a8 a9 a10 a11 a12 a13 a14 a15 a16 : Nat → Int32}
theorem pm_166 {post : Int32 → St0 → Prop} {mc ms kc ks i o D m : Nat} (ho : o ≤ 1) (hD : pm_dg m D) (hs : ∀ j, j < D → a15 (o + j) = nI (48 + m / 10 ^ (D - 1 - j) % 10)) (H : post 1 ()) :
    wL_lawOf_166 post mc ms (nI i) (nI (o + D)) (nI (m % 10)) kc ks rs tl cp sd ns ce cc bc pt oc ab (nI (o + D)) ov la ((1 : Int32) <<< (nI i &&& 31)) a1 a2 a3 a4 a5 a6 a7 a8 a9 a10 a11 a12 a13 a14 a15 a16 := by
  have hD1 := hD.1
  have hD2 := hD.2.1
  have x := hs (D - 1) (by omega)
  rw [Nat.sub_self, Nat.pow_zero, Nat.div_one] at x
  have e : nI (o + D) - 1 = nI (o + (D - 1)) := by
    rw [show o + D = o + (D - 1) + 1 by omega]
    exact nI_pred _
  unfold wL_lawOf_166
  rw [e]
  refine pm_at (by omega) (by omega) x (br_t (nI_add 48 (m % 10)).symm ?_)
  exact pm_out (by omega) (br_t rfl (br_t rfl H))
theorem pm_29 {post : Int32 → St0 → Prop} {x0 v : Int32} {i o D m : Nat} (hi : i < 4) (hv : pm_v v o m) (hD : pm_dg m D) (H : post 1 ()) :
    wL_lawOf_29 post 184 2928 x0 v (nI i) (nI (o + D)) (nI (m % 10)) 0 0 := by
  have hD1 := hD.1
  have hD2 := hD.2.1
  have hv' : pm_v (upd (fun _ => 0) i v i) o m := by rw [pk_us]; exact hv
  refine ⟨by decide, by decide, 16, 697, by decide, by decide, pm_init (fun R => pm_set hi (br_f (by decide) ?_))⟩
  refine pm_tySign (n := 0) (c := 123) (by decide) (Or.inl rfl) (br_t rfl ?_)
  dsimp only
  rw [pm_c4 i hi]
  refine pm_tyDig (n := 1) (c := 48 + i) (by decide) (by omega) (by omega) (br_t rfl ?_)
  refine pm_fmt0 hi rfl rfl (br_t rfl ?_)
  refine pm_tySign (n := 2) (c := 125) (by decide) (Or.inr rfl) (br_t rfl ?_)
  refine pm_fmt1 (o := o) (D := D) (m := m) hi rfl rfl rfl hv' hD (fun n s t u w x h1 h2 => br_t rfl ?_)
  have ho : o ≤ 1 := by
    obtain ⟨_, ⟨z, _⟩ | ⟨z, _⟩⟩ := hv
    · omega
    · omega
  have k := h2 0 hD1
  rw [Nat.sub_zero] at k
  obtain ⟨hm, ⟨rfl, g0, gm, ev, _⟩ | ⟨rfl, g0, ev, _⟩⟩ := hv
  · refine pm_at (k := 0) (by omega) (by omega) k (br_f ?_ (br_t g0 (br_t rfl ?_)))
    · intro z
      have := (nI_eq (b := 45) (by omega) (by decide)).mp z
      omega
    · refine br_c (fun _ => pm_166 (by decide) hD h2 H) (fun z => br_f ?_ (pm_166 (by decide) hD h2 H))
      intro z'
      have y := (nI_eq (b := 48) (by omega) (by decide)).mp z'
      have y2 : 10 ≤ m := by
        rcases Nat.lt_or_ge m 10 with q | q
        · exact absurd (show v ≤ 9 by rw [ev]; exact nI_le (b := 9) (by omega) (by decide)) z
        · exact q
      have y3 := pm_top hD y2
      omega
  · refine pm_at (k := 0) (x := 45) (by omega) (by omega) (h1 rfl) (br_t rfl (br_f g0 (br_t rfl ?_)))
    exact br_c (fun _ => pm_166 (by decide) hD h2 H) (fun z => br_f (by decide) (pm_166 (by decide) hD h2 H))
end
theorem pm_lawOf {post : Int32 → St0 → Prop} {p0 p1 p2 : Int32} (H : post 1 ()) : wpL_lawOf post 184 2928 () p0 p1 p2 := by
  obtain ⟨i, hi, e⟩ := pk_andE p1 (m := 3) 2 (by decide)
  obtain ⟨o, m, hv⟩ := pm_ex p2
  refine nm_r e (pm_digits hv (fun D hD => ⟨by decide, ?_⟩))
  exact pm_last (A := fun z => wL_lawOf_29 post 184 2928 p0 p2 (nI i) (nI (o + D)) z 0 0) hv (pm_29 hi hv hD H)
theorem pm_cell {post : Int32 → Prop} {L : Nat} {xs : Nat → Int32} {k : Nat} (hL : L ≤ 3) (hk : k < 3) (H : ∀ x, post x) : wpL_cellAt post L xs () (nI k) :=
  pk_le L k (fun _ => H _) (fun z => ⟨pk_in k L z, H _⟩)
theorem i_vc (xs : Nat → Int32) (L : Nat) (hL : L ≤ 3) : wpL_law (fun r => r = 1) L xs :=
  pm_cell (k := 0) hL (by decide) (fun _ => pm_cell (k := 1) hL (by decide) (fun _ => pm_cell (k := 2) hL (by decide) (fun _ => ⟨184, 2928, by decide, by decide, pm_lawOf rfl⟩)))
end
