section
/-! ===== the methods, any values: each ends, and writes one place of each array ===== -/
theorem rf_store48 {post : St2 → Prop} {r ng x8 b md fl : Int32} {x6 : Int64} {a1 a2 : Nat → Int32} (hr : vp_in r 4)
    (H : ∀ v w : Int32, post (b, md, fl, upd a1 r.toNatClampNeg v, upd a2 r.toNatClampNeg w)) :
    wX_store_48 post r ng x6 x8 b md fl a1 a2 :=
  br_c (fun _ => ⟨hr, nm_e (br_c (fun _ => ⟨hr, nm_e (H _ _)⟩) (fun _ => ⟨hr, nm_e (H _ _)⟩))⟩)
    (fun _ => ⟨hr, nm_e (br_c (fun _ => ⟨hr, nm_e (H _ _)⟩) (fun _ => ⟨hr, nm_e (H _ _)⟩))⟩)
theorem rf_store {post : St2 → Prop} {r ng e b md fl : Int32} {m : Int64} {a1 a2 : Nat → Int32} (hr : vp_in r 4)
    (H : ∀ v w : Int32, post (b, md, fl, upd a1 r.toNatClampNeg v, upd a2 r.toNatClampNeg w)) :
    wpX_store post (b, md, fl, a1, a2) r ng m e := by
  unfold wpX_store
  exact pk_loop (fun n i (s : Int64 × Int32) => wX_store_10 post r ng b md fl a1 a2 n s.1 s.2 (nI i)) (fun _ _ => True) 62 0 (m, e) (by omega) trivial
    (fun n s _ => pk_le 62 62 (fun _ => rf_store48 hr H) (fun z => absurd z (by omega)))
    (fun n i s hi _ hw => pk_le 62 i (fun z => absurd z (by omega)) (fun _ => br_c (fun _ => rf_store48 hr H) (fun _ => br_c (fun _ => nm_e (nm_e (nm_r (nI_1 i) (hw (_, _) trivial)))) (fun _ => rf_store48 hr H))))
theorem rf_bits {post : Int32 → Prop} {m : Int64} (H : ∀ n : Int32, post n) : wpX_bitsOf post () m := by
  unfold wpX_bitsOf
  exact pk_loop (σ := Unit) (fun n i _ => wX_bitsOf_2 post m n (nI i)) (fun _ _ => True) 62 0 () (by omega) trivial
    (fun n _ _ => pk_le 62 62 (fun _ => H _) (fun z => absurd z (by omega)))
    (fun n i _ hi _ hw => pk_le 62 i (fun z => absurd z (by omega)) (fun _ => br_c (fun _ => H _) (fun _ => nm_r (nI_1 i) (hw () trivial))))
theorem rf_away {post : Int32 → Prop} {b md fl p0 p1 p3 p4 : Int32} {p2 : Int64} {a1 a2 : Nat → Int32} (H : ∀ x : Int32, post x) :
    wpX_goesAway post (b, md, fl, a1, a2) p0 p1 p2 p3 p4 := by
  have h65 : wX_goesAway_65 post p0 b md fl a1 a2 := br_c (fun _ => br_c (fun _ => H _) (fun _ => H _)) (fun _ => H _)
  unfold wpX_goesAway
  exact br_c (fun _ => br_c (fun _ => nm_e (br_c (fun _ => H _) (fun _ => br_c (fun _ => br_c (fun _ => br_c (fun _ => H _) (fun _ => H _)) (fun _ => H _)) (fun _ => H _)))) (fun _ => H _))
    (fun _ => br_c (fun _ => br_c (fun _ => H _) (fun _ => h65)) (fun _ => h65))
section
variable {post : Int32 → St2 → Prop} {r ng b md fl : Int32} {a1 a2 : Nat → Int32}
/-- what a caller may know of any rounding: the answer isn't negative, bits and mode are kept, one place is written -/
def rf_any (post : Int32 → St2 → Prop) (r b md : Int32) (a1 a2 : Nat → Int32) : Prop :=
  ∀ k fl v w : Int32, ¬ k < 0 → post k (b, md, fl, upd a1 r.toNatClampNeg v, upd a2 r.toNatClampNeg w)
theorem rf_limit (hr : vp_in r 4) (H : rf_any post r b md a1 a2) : wpX_limit post (b, md, fl, a1, a2) r ng := by
  unfold wpX_limit
  exact rf_store hr (fun v w => nm_e (H 3 _ v w (by decide)))
theorem rf_211 {x8 : Int32} {z0 : Int64} (hr : vp_in r 4) (H : rf_any post r b md a1 a2) : wX_round_211 post x8 z0 ng r b md fl a1 a2 := by
  unfold wX_round_211
  exact rf_store hr (fun v w => nm_e (H 1 _ v w (by decide)))
theorem rf_183 {x6 x8 x9 z0 z1 : Int32} {x10 x12 : Int64} (hr : vp_in r 4) (H : rf_any post r b md a1 a2) : wX_round_183 post r ng x6 x8 x9 x10 x12 z0 z1 b md fl a1 a2 := by
  unfold wX_round_183
  exact rf_away (fun x => br_c (fun _ => rf_211 hr H) (fun _ => rf_211 hr H))
theorem rf_167 {x6 x8 x9 : Int32} {x10 x12 : Int64} (hr : vp_in r 4) (H : rf_any post r b md a1 a2) : wX_round_167 post r ng x6 x8 x9 x10 x12 b md fl a1 a2 :=
  br_c (fun _ => rf_183 hr H) (fun _ => rf_183 hr H)
theorem rf_139 {x6 x8 x9 : Int32} {x10 x12 : Int64} (hr : vp_in r 4) (H : rf_any post r b md a1 a2) : wX_round_139 post r ng x6 x8 x9 x10 x12 b md fl a1 a2 := by
  unfold wX_round_139
  exact br_c (fun _ => br_c (fun _ => rf_limit hr H) (fun _ => rf_167 hr H)) (fun _ => rf_167 hr H)
theorem rf_113 {x6 x8 x9 : Int32} {x10 z0 : Int64} (hr : vp_in r 4) (H : rf_any post r b md a1 a2) : wX_round_113 post r ng x6 x8 x9 x10 z0 b md fl a1 a2 := by
  unfold wX_round_113
  exact br_c (fun _ => br_c (fun _ => rf_store hr (fun v w => H 0 fl v w (by decide))) (fun _ => rf_139 hr H)) (fun _ => rf_139 hr H)
theorem rf_93 {x6 x8 x9 : Int32} {x3 z0 : Int64} (hr : vp_in r 4) (H : rf_any post r b md a1 a2) : wX_round_93 post r ng x3 x6 x8 x9 z0 b md fl a1 a2 :=
  br_c (fun _ => rf_113 hr H) (fun _ => rf_113 hr H)
theorem rf_55 {x5 x6 x8 : Int32} {x3 : Int64} (hr : vp_in r 4) (H : rf_any post r b md a1 a2) : wX_round_55 post r ng x3 x5 x6 x8 b md fl a1 a2 := by
  unfold wX_round_55
  exact nm_e (br_c (fun _ => br_c (fun _ => rf_93 hr H) (fun _ => rf_93 hr H)) (fun _ => rf_store hr (fun v w => H 0 fl v w (by decide))))
theorem rf_33 {x5 x6 z0 : Int32} {x3 : Int64} (hr : vp_in r 4) (H : rf_any post r b md a1 a2) : wX_round_33 post r ng x3 x5 x6 z0 b md fl a1 a2 := by
  unfold wX_round_33
  exact br_c (fun _ => rf_55 hr H) (fun _ => br_c (fun _ => rf_55 hr H) (fun _ => rf_limit hr H))
theorem rf_round {m : Int64} {e mo : Int32} (hr : vp_in r 4) (H : rf_any post r b md a1 a2) : wpX_round post (b, md, fl, a1, a2) r ng m e mo := by
  unfold wpX_round
  exact rf_bits (fun n => nm_e (br_c (fun _ => rf_33 hr H) (fun _ => rf_33 hr H)))
theorem rf_ex19 {x5 : Int64} {x4 : Int32} (hr : vp_in r 4) (H : rf_any post r b md a1 a2) : wX_exactly_19 post x4 x5 ng r b md fl a1 a2 := by
  unfold wX_exactly_19
  exact rf_round hr H
theorem rf_exactly {m : Int64} {e : Int32} (hr : vp_in r 4) (H : rf_any post r b md a1 a2) : wpX_exactly post (b, md, fl, a1, a2) r m e := by
  unfold wpX_exactly
  exact br_c (fun _ => br_c (fun _ => rf_ex19 hr H) (fun _ => rf_ex19 hr H)) (fun _ => br_c (fun _ => rf_ex19 hr H) (fun _ => rf_ex19 hr H))
end
/-! ===== registers ===== -/
theorem rf_regN {post : Int32 → Prop} {r : Int32} (h : r < 0 ∨ 4 ≤ r) (H : post 0) : wpX_isRegister post () r :=
  br_c (fun _ => H) (fun h0 => br_t (h.resolve_left h0) H)
theorem rf_regY {post : Int32 → Prop} {i : Nat} (hi : i < 4) (H : post 1) : wpX_isRegister post () (nI i) :=
  br_f (nI_pos (by omega)) (br_f (nI_ge (b := 4) hi (by decide)) H)
theorem rf_one : ¬ (1 : Int32) = 0 := by decide
section
variable {post : Int32 → St2 → Prop} {b md fl : Int32} {a1 a2 : Nat → Int32}
theorem rf_loadA {r m e : Int32} (h : r < 0 ∨ 4 ≤ r) (H : post (-1) (b, md, fl, a1, a2)) : wpX_load post (b, md, fl, a1, a2) r m e := by
  unfold wpX_load
  exact rf_regN h (br_t rfl H)
theorem rf_loadB {i : Nat} {m e : Int32} (hi : i < 4) (h : e < (-20) ∨ ¬ e ≤ 20) (H : post (-1) (b, md, fl, a1, a2)) : wpX_load post (b, md, fl, a1, a2) (nI i) m e := by
  unfold wpX_load
  exact rf_regY hi (br_f rf_one (br_c (fun _ => H) (fun _ => br_c (fun _ => H) (fun _ => br_c (fun _ => H) (fun h1 => br_f (h.resolve_left h1) H)))))
theorem rf_loadC {i : Nat} {m e : Int32} (hi : i < 4) (h1 : ¬ m < (-1000000)) (h2 : ¬ 1000000 < m) (h3 : ¬ e < (-20)) (h4 : e ≤ 20) (H : rf_any post (nI i) b md a1 a2) :
    wpX_load post (b, md, fl, a1, a2) (nI i) m e := by
  unfold wpX_load
  exact rf_regY hi (br_f rf_one (br_f h1 (br_f h2 (br_f h3 (br_t h4 (rf_exactly (pk_in i 4 hi) H))))))
end
section
variable {post : Int32 → Prop} {b md fl : Int32} {a1 a2 : Nat → Int32}
theorem rf_mantN {r : Int32} (h : r < 0 ∨ 4 ≤ r) (H : post 0) : wpX_mantissa post (b, md, fl, a1, a2) r := by
  unfold wpX_mantissa
  exact rf_regN h (br_t rfl H)
theorem rf_expN {r : Int32} (h : r < 0 ∨ 4 ≤ r) (H : post 0) : wpX_exponent post (b, md, fl, a1, a2) r := by
  unfold wpX_exponent
  exact rf_regN h (br_t rfl H)
theorem rf_cmpN {r : Int32} (h : r < 0 ∨ 4 ≤ r) (H : post 0) : wpX_compare post (b, md, fl, a1, a2) r 3 := by
  unfold wpX_compare
  exact rf_regN h (br_t rfl H)
theorem rf_mantY {i : Nat} {v : Int32} (hi : i < 4) (hv : a1 i = v) (H : post v) : wpX_mantissa post (b, md, fl, a1, a2) (nI i) := by
  unfold wpX_mantissa
  refine rf_regY hi (br_f rf_one ⟨pk_in i 4 hi, ?_⟩)
  rw [nI_clamp (show i < 2 ^ 31 by omega), hv]
  exact H
theorem rf_expY {i : Nat} {w : Int32} (hi : i < 4) (hw : a2 i = w) (H : post w) : wpX_exponent post (b, md, fl, a1, a2) (nI i) := by
  unfold wpX_exponent
  refine rf_regY hi (br_f rf_one ⟨pk_in i 4 hi, ?_⟩)
  rw [nI_clamp (show i < 2 ^ 31 by omega), hw]
  exact H
theorem rf_46 {i : Nat} {z : Int32} (hi : i < 4) (H : ∀ x : Int32, post x) : wX_compare_46 post (nI i) 3 z b md fl a1 a2 := by
  unfold wX_compare_46
  exact ⟨pk_in i 4 hi, pk_in i 4 hi, nm_e ⟨pk_in 3 4 (by decide), pk_in 3 4 (by decide), nm_e (br_c (fun _ => H _) (fun _ => br_c (fun _ => H _) (fun _ => H _)))⟩⟩
theorem rf_cmpY {i : Nat} (hi : i < 4) (H : ∀ x : Int32, post x) : wpX_compare post (b, md, fl, a1, a2) (nI i) 3 := by
  unfold wpX_compare
  exact rf_regY hi (br_f rf_one (rf_regY (i := 3) (by decide) (br_f rf_one ⟨pk_in i 4 hi, pk_in 3 4 (by decide), br_c (fun _ => ⟨pk_in 3 4 (by decide), rf_46 hi H⟩) (fun _ => ⟨pk_in i 4 hi, rf_46 hi H⟩)⟩)))
end
end
section
/-! ===== the exact case: m = k - 3 (k < 7), e = j - 12 (j < 24) ===== -/
/-- the mantissa that is kept -/
def rf_M (k : Nat) : Int32 := if k = 0 then -3 else if k = 1 then -1 else if k = 2 then -1 else if k = 3 then 0 else if k = 4 then 1 else if k = 5 then 1 else 3
/-- the exponent that is kept -/
def rf_X (k j : Nat) : Int32 := if k = 3 then 0 else if k = 1 then nI j - 12 + 1 else if k = 5 then nI j - 12 + 1 else nI j - 12
/-- the sign -/
def rf_S (k : Nat) : Int32 := if k < 3 then -1 else if k = 3 then 0 else 1
abbrev rf_cmpP (k j : Nat) (z : Int32) : Prop :=
  ((rf_M k).toInt64 <<< ((rf_X k j - z).toInt64 &&& 63) = (0 : Int32).toInt64 <<< (((0 : Int32) - z).toInt64 &&& 63) ↔ k = 3)
  ∧ ((0 : Int32).toInt64 <<< (((0 : Int32) - z).toInt64 &&& 63) ≤ (rf_M k).toInt64 <<< ((rf_X k j - z).toInt64 &&& 63) ↔ 3 ≤ k)
theorem rf_cmpF : ∀ k, k < 7 → ∀ j, j < 24 → rf_cmpP k j (if 0 ≤ rf_X k j then 0 else rf_X k j) := by decide +kernel
theorem rf_valF : ∀ k, k < 7 → ∀ j, j < 24 → (rf_M k).toInt64 <<< ((rf_X k j + 12).toInt64 &&& 63) = (nI k - 3).toInt64 <<< ((nI j - 12 + 12).toInt64 &&& 63) := by decide +kernel
theorem rf_dueF : ∀ k, k < 7 → ((0 ≤ nI k - 3 → nI k - 3 ≤ 0 → rf_S k = 0) ∧ (0 ≤ nI k - 3 → ¬ nI k - 3 ≤ 0 → rf_S k = 1) ∧ (¬ 0 ≤ nI k - 3 → rf_S k = -1)) := by decide +kernel
theorem rf_mF : ∀ k, k < 7 → (¬ nI k - 3 < (-1000000) ∧ ¬ 1000000 < nI k - 3) := by decide +kernel
theorem rf_eF : ∀ j, j < 24 → (¬ nI j - 12 < (-20) ∧ nI j - 12 ≤ 20) := by decide +kernel
theorem rf_cutA : ∀ k, k < 3 → ∀ b, b < 9 → ∀ j, j < 24 → (nI k + (nI j - 12) - nI (b + 2) ≤ 11 ∧ ¬ 0 < nI k + (nI j - 12) - nI (b + 2) - (nI j - 12)) := by decide +kernel
theorem rf_cutB : ∀ j, j < 24 → ¬ 0 < (-12) - (nI j - 12) := by decide +kernel
theorem rf_cutF (k : Nat) (hk : k < 3) (b : Nat) (hb2 : b < 11) (hb : 2 ≤ b) (j : Nat) (hj : j < 24) : (nI k + (nI j - 12) - nI b ≤ 11 ∧ ¬ 0 < nI k + (nI j - 12) - nI b - (nI j - 12)) ∧ ¬ 0 < (-12) - (nI j - 12) := by
  have h := rf_cutA k hk (b - 2) (by omega) j hj
  rw [show b - 2 + 2 = b by omega] at h
  exact ⟨h, rf_cutB j hj⟩
section
variable {post : St2 → Prop} {r ng b md fl : Int32} {a1 a2 : Nat → Int32}
theorem rf_st48 {x8 v : Int32} {x6 : Int64} (hr : vp_in r 4) (h0 : ¬ x6 = 0) (hn : (ng = 0 ∧ x6.toInt32 = v) ∨ (¬ ng = 0 ∧ (-x6).toInt32 = v))
    (H : post (b, md, fl, upd a1 r.toNatClampNeg v, upd a2 r.toNatClampNeg x8)) : wX_store_48 post r ng x6 x8 b md fl a1 a2 := by
  rcases hn with ⟨h, hv⟩ | ⟨h, hv⟩
  · subst hv
    exact br_t h ⟨hr, nm_e (br_f h0 ⟨hr, nm_e H⟩)⟩
  · subst hv
    exact br_f h ⟨hr, nm_e (br_f h0 ⟨hr, nm_e H⟩)⟩
theorem rf_stO {e v : Int32} {m : Int64} (hr : vp_in r 4) (h0 : ¬ m = 0) (h1 : ¬ (m &&& 1) = 0) (hn : (ng = 0 ∧ m.toInt32 = v) ∨ (¬ ng = 0 ∧ (-m).toInt32 = v))
    (H : post (b, md, fl, upd a1 r.toNatClampNeg v, upd a2 r.toNatClampNeg e)) : wpX_store post (b, md, fl, a1, a2) r ng m e := by
  unfold wpX_store
  exact ⟨0 + 1, br_f (by decide) (br_f h0 (br_f h1 (rf_st48 hr h0 hn H)))⟩
theorem rf_st2 {e v : Int32} {m : Int64} (hr : vp_in r 4) (hm : m = 2) (hn : (ng = 0 ∧ (1 : Int64).toInt32 = v) ∨ (¬ ng = 0 ∧ (-(1 : Int64)).toInt32 = v))
    (H : post (b, md, fl, upd a1 r.toNatClampNeg v, upd a2 r.toNatClampNeg (e + 1))) : wpX_store post (b, md, fl, a1, a2) r ng m e := by
  subst hm
  have h1 : ¬ (1 : Int64) = 0 := by decide
  have h2 : ¬ ((1 : Int64) &&& 1) = 0 := by decide
  have h3 : (2 : Int64) >>> ((1 : Int32).toInt64 &&& 63) = 1 := by decide
  unfold wpX_store
  exact ⟨0 + 1 + 1, br_f (by decide) (br_f (by decide) (br_t (by decide) (nm_r h3 (nm_e (nm_e (br_f (by decide) (br_f h1 (br_f h2 (rf_st48 hr h1 hn H)))))))))⟩
theorem rf_st0 {e : Int32} {m : Int64} (hr : vp_in r 4) (hm : m = 0) (hn : ng = 0)
    (H : post (b, md, fl, upd a1 r.toNatClampNeg 0, upd a2 r.toNatClampNeg 0)) : wpX_store post (b, md, fl, a1, a2) r ng m e := by
  subst hm
  have h3 : upd a1 r.toNatClampNeg (0 : Int64).toInt32 = upd a1 r.toNatClampNeg 0 := congrArg (upd a1 r.toNatClampNeg) (by decide)
  unfold wpX_store
  exact ⟨0 + 1, br_f (by decide) (br_t rfl (br_t hn ⟨hr, nm_r h3 (br_t rfl ⟨hr, nm_e H⟩)⟩))⟩
end
theorem rf_bitsD {post : Int32 → Prop} {m : Int64} (hm : m = 0 ∨ m = 1 ∨ m = 2 ∨ m = 3) (H : ∀ k, k < 3 → post (nI k)) : wpX_bitsOf post () m := by
  have e1 : (0 : Int32) + 1 = nI 1 := by decide
  have e2 : nI 1 + 1 = nI 2 := by decide
  have d0 : ¬ (62 : Int32) ≤ 0 := by decide
  have d1 : ¬ (62 : Int32) ≤ nI 1 := by decide
  have d2 : ¬ (62 : Int32) ≤ nI 2 := by decide
  unfold wpX_bitsOf
  rcases hm with rfl | rfl | rfl | rfl
  · exact ⟨0 + 1, br_f d0 (br_t (by decide) (H 0 (by decide)))⟩
  · exact ⟨0 + 1 + 1, br_f d0 (br_f (by decide) (nm_r e1 (br_f d1 (br_t (by decide) (H 1 (by decide))))))⟩
  · exact ⟨0 + 1 + 1 + 1, br_f d0 (br_f (by decide) (nm_r e1 (br_f d1 (br_f (by decide) (nm_r e2 (br_f d2 (br_t (by decide) (H 2 (by decide)))))))))⟩
  · exact ⟨0 + 1 + 1 + 1, br_f d0 (br_f (by decide) (nm_r e1 (br_f d1 (br_f (by decide) (nm_r e2 (br_f d2 (br_t (by decide) (H 2 (by decide)))))))))⟩
section
variable {post : Int32 → St2 → Prop} {r ng md fl : Int32} {a1 a2 A1 A2 : Nat → Int32}
theorem rf_33D {b e z : Int32} {m : Int64} (h11 : z ≤ 11) (hc : ¬ 0 < z - e) (hs : ∀ ψ : St2 → Prop, ψ (b, md, fl, A1, A2) → wpX_store ψ (b, md, fl, a1, a2) r ng m e)
    (H : post 0 (b, md, fl, A1, A2)) : wX_round_33 post r ng m e 0 z b md fl a1 a2 := by
  have K : wX_round_55 post r ng m e 0 z b md fl a1 a2 := by
    unfold wX_round_55
    exact nm_e (br_f hc (hs _ H))
  unfold wX_round_33
  exact br_c (fun _ => K) (fun _ => br_t h11 K)
theorem rf_roundD {b j : Nat} {m : Int64} (hm : m = 0 ∨ m = 1 ∨ m = 2 ∨ m = 3) (hb : 2 ≤ b) (hb2 : b < 11) (hj : j < 24)
    (hs : ∀ ψ : St2 → Prop, ψ (nI b, md, fl, A1, A2) → wpX_store ψ (nI b, md, fl, a1, a2) r ng m (nI j - 12))
    (H : post 0 (nI b, md, fl, A1, A2)) : wpX_round post (nI b, md, fl, a1, a2) r ng m (nI j - 12) 0 := by
  unfold wpX_round
  exact rf_bitsD hm (fun k hk => nm_e (br_c (fun _ => rf_33D (rf_cutF k hk b hb2 hb j hj).1.1 (rf_cutF k hk b hb2 hb j hj).1.2 hs H) (fun _ => rf_33D (by decide) (rf_cutF k hk b hb2 hb j hj).2 hs H)))
theorem rf_ex19D {b j : Nat} {m : Int64} (hm : m = 0 ∨ m = 1 ∨ m = 2 ∨ m = 3) (hb : 2 ≤ b) (hb2 : b < 11) (hj : j < 24)
    (hs : ∀ ψ : St2 → Prop, ψ (nI b, md, fl, A1, A2) → wpX_store ψ (nI b, md, fl, a1, a2) r ng m (nI j - 12))
    (H : post 0 (nI b, md, fl, A1, A2)) : wX_exactly_19 post (nI j - 12) m ng r (nI b) md fl a1 a2 := by
  unfold wX_exactly_19
  exact rf_roundD hm hb hb2 hj hs H
theorem rf_exactlyD {b j k : Nat} (hk : k < 7) (hb : 2 ≤ b) (hb2 : b < 11) (hj : j < 24) (hr : vp_in r 4)
    (H : post 0 (nI b, md, fl, upd a1 r.toNatClampNeg (rf_M k), upd a2 r.toNatClampNeg (rf_X k j))) :
    wpX_exactly post (nI b, md, fl, a1, a2) r (nI k - 3).toInt64 (nI j - 12) := by
  have hk' : k = 0 ∨ k = 1 ∨ k = 2 ∨ k = 3 ∨ k = 4 ∨ k = 5 ∨ k = 6 := by omega
  unfold wpX_exactly
  rcases hk' with rfl | rfl | rfl | rfl | rfl | rfl | rfl
  · exact br_f (by decide) (br_f (by decide) (rf_ex19D (by decide) hb hb2 hj (fun ψ h => rf_stO hr (by decide) (by decide) (Or.inr ⟨by decide, by decide⟩) h) H))
  · exact br_f (by decide) (br_f (by decide) (rf_ex19D (by decide) hb hb2 hj (fun ψ h => rf_st2 hr (by decide) (Or.inr ⟨by decide, by decide⟩) h) H))
  · exact br_f (by decide) (br_f (by decide) (rf_ex19D (by decide) hb hb2 hj (fun ψ h => rf_stO hr (by decide) (by decide) (Or.inr ⟨by decide, by decide⟩) h) H))
  · exact br_t (by decide) (br_t (by decide) (rf_ex19D (by decide) hb hb2 hj (fun ψ h => rf_st0 hr (by decide) (by decide) h) H))
  · exact br_t (by decide) (br_t (by decide) (rf_ex19D (by decide) hb hb2 hj (fun ψ h => rf_stO hr (by decide) (by decide) (Or.inl ⟨by decide, by decide⟩) h) H))
  · exact br_t (by decide) (br_t (by decide) (rf_ex19D (by decide) hb hb2 hj (fun ψ h => rf_st2 hr (by decide) (Or.inl ⟨by decide, by decide⟩) h) H))
  · exact br_t (by decide) (br_t (by decide) (rf_ex19D (by decide) hb hb2 hj (fun ψ h => rf_stO hr (by decide) (by decide) (Or.inl ⟨by decide, by decide⟩) h) H))
theorem rf_loadD {b i j k : Nat} (hi : i < 4) (hk : k < 7) (hb : 2 ≤ b) (hb2 : b < 11) (hj : j < 24)
    (H : post 0 (nI b, md, fl, upd a1 i (rf_M k), upd a2 i (rf_X k j))) :
    wpX_load post (nI b, md, fl, a1, a2) (nI i) (nI k - 3) (nI j - 12) := by
  have hc : (nI i).toNatClampNeg = i := nI_clamp (by omega)
  unfold wpX_load
  exact rf_regY hi (br_f rf_one (br_f (rf_mF k hk).1 (br_f (rf_mF k hk).2 (br_f (rf_eF j hj).1 (br_t (rf_eF j hj).2 (rf_exactlyD hk hb hb2 hj (pk_in i 4 hi) (by rw [hc]; exact H)))))))
end
section
variable {post : Int32 → Prop} {b md fl : Int32} {a1 a2 : Nat → Int32}
theorem rf_46D {i j k : Nat} {z : Int32} (hi : i < 4) (h1 : a1 i = rf_M k) (h2 : a2 i = rf_X k j) (h3 : a1 3 = 0) (h4 : a2 3 = 0) (hz : rf_cmpP k j z) (H : post (rf_S k)) :
    wX_compare_46 post (nI i) 3 z b md fl a1 a2 := by
  have c3 : (3 : Int32).toNatClampNeg = 3 := by decide
  unfold wX_compare_46
  rw [nI_clamp (show i < 2 ^ 31 by omega), c3, h1, h2, h3, h4]
  refine ⟨pk_in i 4 hi, pk_in i 4 hi, nm_e ⟨pk_in 3 4 (by decide), pk_in 3 4 (by decide), nm_e (br_c (fun h => ?_) (fun h => br_c (fun g => ?_) (fun g => ?_)))⟩⟩
  · have e := hz.1.mp h
    subst e
    exact H
  · have e1 : ¬ k = 3 := fun t => h (hz.1.mpr t)
    have e2 := hz.2.mp g
    have e : rf_S k = 1 := by
      unfold rf_S
      rw [if_neg (by omega), if_neg e1]
    rw [e] at H
    exact H
  · have e2 : ¬ 3 ≤ k := fun t => g (hz.2.mpr t)
    have e : rf_S k = -1 := by
      unfold rf_S
      rw [if_pos (by omega)]
    rw [e] at H
    exact H
theorem rf_cmpD {i j k : Nat} (hi : i < 4) (hj : j < 24) (hk : k < 7) (h1 : a1 i = rf_M k) (h2 : a2 i = rf_X k j) (h3 : a1 3 = 0) (h4 : a2 3 = 0) (H : post (rf_S k)) :
    wpX_compare post (b, md, fl, a1, a2) (nI i) 3 := by
  have c3 : (3 : Int32).toNatClampNeg = 3 := by decide
  have hF := rf_cmpF k hk j hj
  unfold wpX_compare
  refine rf_regY hi (br_f rf_one (rf_regY (i := 3) (by decide) (br_f rf_one ⟨pk_in i 4 hi, pk_in 3 4 (by decide), ?_⟩)))
  rw [nI_clamp (show i < 2 ^ 31 by omega), c3, h2, h4]
  refine br_c (fun h => ⟨pk_in 3 4 (by decide), ?_⟩) (fun h => ⟨pk_in i 4 hi, ?_⟩)
  · rw [if_pos h] at hF
    exact rf_46D hi h1 h2 h3 h4 hF H
  · rw [if_neg h] at hF
    exact rf_46D hi h1 h2 h3 h4 hF H
end
end
section
/-! ===== the law's own rows ===== -/
/-- the clamp of the law and of the class -/
def rf_cl (x y : Int32) : Prop := (2 ≤ x → x ≤ 10 → y = x) ∧ (2 ≤ x → ¬ x ≤ 10 → y = 10) ∧ (¬ 2 ≤ x → y = 2)
def rf_good (x6 x7 x8 x12 : Int32) : Prop := (x12 = 0 → x6 = -1 ∧ x7 = 0 ∧ x8 = 0) ∧ (¬ x12 = 0 → ¬ x6 < 0)
def rf_due (x5 x9 : Int32) : Prop := (0 ≤ x5 → x5 ≤ 0 → x9 = 0) ∧ (0 ≤ x5 → ¬ x5 ≤ 0 → x9 = 1) ∧ (¬ 0 ≤ x5 → x9 = -1)
section
variable {post : Int32 → St0 → Prop} {mc ms kc ks : Nat} {x0 x1 x3 x5 x6 x7 x8 x9 x10 x11 x12 x13 x15 : Int32}
theorem rf_l241 {z0 z1 : Int32} (hp : post 1 ()) (hz : z1 = z0) (hg : rf_good x6 x7 x8 x12) (h9 : x9 = x15) : wL_lawOf_241 post mc ms x6 x7 x8 x9 x12 1 x15 z0 z1 kc ks := by
  have R : wL_lawOf_273 post mc ms x9 1 x15 kc ks := br_f rf_one (br_t h9 hp)
  unfold wL_lawOf_241
  exact br_t hz (br_c (fun h => br_t (hg.1 h).1 (br_t (hg.1 h).2.1 (br_t (hg.1 h).2.2 R))) (fun h => br_f (hg.2 h) R))
theorem rf_l216 {z0 : Int32} (hp : post 1 ()) (hc : rf_cl x0 x10) (hg : rf_good x6 x7 x8 x12) (h9 : x9 = z0) : wL_lawOf_216 post mc ms x0 x6 x7 x8 x9 x10 x12 1 z0 kc ks := by
  unfold wL_lawOf_216
  exact br_c (fun h => br_c (fun h' => rf_l241 hp (hc.1 h h') hg h9) (fun h' => rf_l241 hp (hc.2.1 h h') hg h9)) (fun h => rf_l241 hp (hc.2.2 h) hg h9)
theorem rf_l175 (hp : post 1 ()) (hc : rf_cl x0 x10) (hg : rf_good x6 x7 x8 x12) (hd : ¬ x1 = 3 → ¬ x13 = 0 → rf_due x5 x9) : wL_lawOf_175 post mc ms x0 x1 x5 x6 x7 x8 x9 x10 x11 x12 x13 1 kc ks := by
  have S : wL_lawOf_192 post mc ms x0 x6 x7 x8 x9 x10 x12 1 kc ks := by
    unfold wL_lawOf_192
    exact rf_l216 hp hc hg rfl
  unfold wL_lawOf_175
  exact br_c (fun _ => S) (fun _ => br_c (fun _ => S) (fun h1 => br_c (fun _ => S) (fun h2 => br_c (fun g => br_c (fun g' => rf_l216 hp hc hg ((hd h1 h2).1 g g')) (fun g' => rf_l216 hp hc hg ((hd h1 h2).2.1 g g'))) (fun g => rf_l216 hp hc hg ((hd h1 h2).2.2 g)))))
/-- not exact: the value isn't asked for -/
theorem rf_l136 (hp : post 1 ()) (hc : rf_cl x0 x10) (hg : rf_good x6 x7 x8 x12) : wL_lawOf_136 post mc ms x0 x1 x3 x5 x6 x7 x8 x9 x10 x11 x12 kc ks := by
  unfold wL_lawOf_136 wL_lawOf_137
  refine br_t rfl ?_
  unfold wL_lawOf_170
  exact rf_l175 hp hc hg (fun _ h => absurd rfl h)
/-- not good -/
theorem rf_l112 (hp : post 1 ()) (hc : rf_cl x0 x10) (hg : x6 = -1 ∧ x7 = 0 ∧ x8 = 0) : wL_lawOf_112 post mc ms x0 x1 x3 x5 x6 x7 x8 x9 x10 x11 kc ks := by
  unfold wL_lawOf_112 wL_lawOf_113
  exact br_t rfl (rf_l136 hp hc ⟨fun _ => hg, fun h => absurd rfl h⟩)
/-- no register -/
theorem rf_l88 (hp : post 1 ()) (hc : rf_cl x0 x10) (hg : x6 = -1 ∧ x7 = 0 ∧ x8 = 0) : wL_lawOf_88 post mc ms x0 x1 x3 x5 x6 x7 x8 x9 x10 kc ks := by
  unfold wL_lawOf_88 wL_lawOf_89
  exact br_t rfl (rf_l112 hp hc hg)
/-- a register: by the exponent -/
theorem rf_l89 (hp : post 1 ()) (hc : rf_cl x0 x10) (hB : (x3 < (-20) ∨ 20 < x3) → x6 = -1 ∧ x7 = 0 ∧ x8 = 0) (hC : ¬ x3 < (-20) → ¬ 20 < x3 → ¬ x6 < 0)
    (hD : ¬ x3 < (-12) → ¬ 11 < x3 → x6 = 0 ∧ (x7.toInt64 <<< ((x8 + 12).toInt64 &&& 63)) = (x5.toInt64 <<< ((x3 + 12).toInt64 &&& 63)) ∧ (¬ x1 = 3 → rf_due x5 x9)) :
    wL_lawOf_89 post mc ms x0 x1 x3 x5 x6 x7 x8 x9 x10 1 kc ks := by
  unfold wL_lawOf_89
  refine br_f rf_one (br_c (fun h => rf_l112 hp hc (hB (Or.inl h))) (fun h => br_c (fun h' => rf_l112 hp hc (hB (Or.inr h'))) (fun h' => ?_)))
  have hg : rf_good x6 x7 x8 1 := ⟨fun z => absurd z rf_one, fun _ => hC h h'⟩
  unfold wL_lawOf_113
  refine br_f rf_one (br_c (fun _ => rf_l136 hp hc hg) (fun g => br_c (fun _ => rf_l136 hp hc hg) (fun g' => ?_)))
  obtain ⟨d1, d2, d3⟩ := hD g g'
  unfold wL_lawOf_137
  refine br_f rf_one (br_t d1 (br_t d2 ?_))
  unfold wL_lawOf_170
  exact rf_l175 hp hc hg (fun t _ => d3 t)
end
theorem rf_ofE {e : Int32} (h1 : ¬ e < (-12)) (h2 : ¬ 11 < e) : ∃ j : Nat, j < 24 ∧ e = nI j - 12 := by
  rw [Int32.lt_iff_toInt_lt, show (-12 : Int32).toInt = -12 from by decide] at h1
  rw [Int32.lt_iff_toInt_lt, show (11 : Int32).toInt = 11 from by decide] at h2
  refine ⟨(e.toInt + 12).toNat, by omega, Int32.toInt_inj.mp ?_⟩
  have h := pk_sub_toInt (a := (e.toInt + 12).toNat) (b := 12) (by omega) (by omega)
  have h' : (nI (e.toInt + 12).toNat - 12).toInt = ((e.toInt + 12).toNat : Int) - (12 : Nat) := h
  rw [h']
  omega
theorem rf_le20 {e : Int32} (h : ¬ 20 < e) : e ≤ 20 := by
  rw [Int32.lt_iff_toInt_lt] at h
  rw [Int32.le_iff_toInt_le]
  omega
theorem rf_nle20 {e : Int32} (h : 20 < e) : ¬ e ≤ 20 := by
  rw [Int32.lt_iff_toInt_lt] at h
  rw [Int32.le_iff_toInt_le]
  omega
theorem rf_in (e : Int32) (h1 : ¬ e < (-12)) (h2 : ¬ 11 < e) (h : e < (-20) ∨ 20 < e) : False := by
  rw [Int32.lt_iff_toInt_lt, show (-12 : Int32).toInt = -12 from by decide] at h1
  rw [Int32.lt_iff_toInt_lt, show (11 : Int32).toInt = 11 from by decide] at h2
  rw [Int32.lt_iff_toInt_lt, Int32.lt_iff_toInt_lt, show (-20 : Int32).toInt = -20 from by decide, show (20 : Int32).toInt = 20 from by decide] at h
  omega
theorem rf_reg4 : ∀ i, i < 4 → (¬ nI i < 0 ∧ ¬ 3 < nI i ∧ (nI i = 3 → i = 3)) := by decide +kernel
theorem rf_l30 {post : Int32 → St0 → Prop} {mc ms kc ks b k : Nat} {x0 r e m fl : Int32} (hp : post 1 ()) (hb : 2 ≤ b) (hb2 : b < 11) (hc : rf_cl x0 (nI b)) (hk : k < 7) (hm : m = nI k - 3) :
    wL_lawOf_30 post mc ms x0 r e m kc ks (nI b) 0 fl (fun _ => 0) (fun _ => 0) := by
  subst hm
  unfold wL_lawOf_30
  rcases pk_ix r (n := 4) (by decide) with h | h | ⟨i, hi, rfl⟩
  · refine rf_loadA (Or.inl h) (rf_mantN (Or.inl h) (rf_expN (Or.inl h) (rf_cmpN (Or.inl h) ?_)))
    unfold wpX_precision
    exact br_t h (rf_l88 hp hc ⟨rfl, rfl, rfl⟩)
  · have h4 : (4 : Int32) ≤ r := h
    have h3 : (3 : Int32) < r := by
      rw [Int32.le_iff_toInt_le, show (4 : Int32).toInt = 4 from by decide] at h4
      rw [Int32.lt_iff_toInt_lt, show (3 : Int32).toInt = 3 from by decide]
      omega
    refine rf_loadA (Or.inr h4) (rf_mantN (Or.inr h4) (rf_expN (Or.inr h4) (rf_cmpN (Or.inr h4) ?_)))
    unfold wpX_precision
    exact br_c (fun _ => rf_l88 hp hc ⟨rfl, rfl, rfl⟩) (fun _ => br_t h3 (rf_l88 hp hc ⟨rfl, rfl, rfl⟩))
  · obtain ⟨q1, q2, q3⟩ := rf_reg4 i hi
    have hcl : (nI i).toNatClampNeg = i := nI_clamp (by omega)
    by_cases hB : e < (-20) ∨ 20 < e
    · refine rf_loadB hi (hB.imp id rf_nle20) (rf_mantY hi rfl (rf_expY hi rfl (rf_cmpY hi (fun x => ?_))))
      unfold wpX_precision
      exact br_f q1 (br_f q2 (rf_l89 hp hc (fun _ => ⟨rfl, rfl, rfl⟩) (fun g g' => absurd hB (fun t => t.elim g g')) (fun g g' => absurd hB (rf_in e g g'))))
    · have e1 : ¬ e < (-20) := fun t => hB (Or.inl t)
      have e2 : ¬ 20 < e := fun t => hB (Or.inr t)
      by_cases hD : ¬ e < (-12) ∧ ¬ 11 < e
      · obtain ⟨j, hj, rfl⟩ := rf_ofE hD.1 hD.2
        by_cases h3 : i = 3
        · refine rf_loadD hi hk hb hb2 hj (rf_mantY hi pk_us (rf_expY hi pk_us (rf_cmpY hi (fun x => ?_))))
          unfold wpX_precision
          exact br_f q1 (br_f q2 (rf_l89 hp hc (fun t => absurd t hB) (fun _ _ => by decide) (fun _ _ => ⟨rfl, rf_valF k hk j hj, fun t => absurd (congrArg nI h3) t⟩)))
        · refine rf_loadD hi hk hb hb2 hj (rf_mantY hi pk_us (rf_expY hi pk_us (rf_cmpD hi hj hk pk_us pk_us (pk_un (fun t => h3 t.symm)) (pk_un (fun t => h3 t.symm)) ?_)))
          unfold wpX_precision
          exact br_f q1 (br_f q2 (rf_l89 hp hc (fun t => absurd t hB) (fun _ _ => by decide) (fun _ _ => ⟨rfl, rf_valF k hk j hj, fun _ => rf_dueF k hk⟩)))
      · refine rf_loadC hi (rf_mF k hk).1 (rf_mF k hk).2 e1 (rf_le20 e2) (fun q fl' v w hq => rf_mantY hi rfl (rf_expY hi rfl (rf_cmpY hi (fun x => ?_))))
        unfold wpX_precision
        exact br_f q1 (br_f q2 (rf_l89 hp hc (fun t => absurd t hB) (fun _ _ => hq) (fun g g' => absurd ⟨g, g'⟩ hD)))
theorem rf_init {post : St2 → Prop} {x : Int32} (H : ∀ b : Nat, 2 ≤ b → b < 11 → rf_cl x (nI b) → post (nI b, 0, 0, (fun _ => 0), (fun _ => 0))) : wpX_init post 2 8 (0, 0, 0) x := by
  unfold wpX_init
  refine ⟨by decide, by decide, by decide, by decide, br_c (fun h => br_c (fun h' => ?_) (fun h' => ?_)) (fun h => ?_)⟩
  · have h0 : ¬ x < 0 := by
      rw [Int32.le_iff_toInt_le, show (2 : Int32).toInt = 2 from by decide] at h
      rw [Int32.lt_iff_toInt_lt, show (0 : Int32).toInt = 0 from by decide]
      omega
    obtain ⟨b, hb, e⟩ := nI_of2 (M := 10) (n := 10) (by decide) h0 h'
    subst e
    have hb1 : 2 ≤ b := (nI_leI (a := 2) (b := b) (by decide) (by omega)).mp h
    exact H b hb1 (by omega) ⟨fun _ _ => rfl, fun _ t => absurd h' t, fun t => absurd h t⟩
  · exact H 10 (by decide) (by decide) ⟨fun _ t => absurd t h', fun _ _ => rfl, fun t => absurd h t⟩
  · exact H 2 (by decide) (by decide) ⟨fun t => absurd t h, fun t => absurd t h, fun _ => rfl⟩
theorem rf_lawOf {post : Int32 → St0 → Prop} {p r m e : Int32} (hp : post 1 ()) : wpL_lawOf post 12 192 () p r m e := by
  obtain ⟨q, hq, hm⟩ := pk_andE m (m := 7) 3 (by decide)
  unfold wpL_lawOf
  refine ⟨by decide, by decide, 2, 8, by decide, by decide, rf_init (fun b hb hb2 hc => ?_)⟩
  rw [hm]
  refine nm_e (br_c (fun h => ?_) (fun h => ?_))
  · exact rf_l30 (k := 3) hp hb hb2 hc (by decide) (by decide)
  · have h7 : ¬ q = 7 := fun t => h (by rw [t]; decide)
    exact rf_l30 (k := q) hp hb hb2 hc (by omega) rfl
theorem rf_cell {post : Int32 → Prop} {L : Nat} {xs : Nat → Int32} (c : Nat) (hc : c < 4) (hL : L ≤ 4) (H : ∀ x : Int32, post x) : wpL_cellAt post L xs () (nI c) := by
  unfold wpL_cellAt
  exact pk_le L c (fun _ => H _) (fun z => ⟨pk_in c L z, H _⟩)
theorem i_vc (xs : Nat → Int32) (L : Nat) (hL : L ≤ 4) : wpL_law (fun r => r = 1) L xs := by
  unfold wpL_law
  exact rf_cell 0 (by decide) hL (fun p => rf_cell 1 (by decide) hL (fun r => rf_cell 2 (by decide) hL (fun m => rf_cell 3 (by decide) hL (fun e =>
    ⟨12, 192, by decide, by decide, rf_lawOf rfl⟩))))
end
