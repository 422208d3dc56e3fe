section
def bt (x : Int32) (i : Nat) : Bool := x.toBitVec.getLsbD i
theorem b_ext {x y : Int32} (h : ∀ i, i < 32 → bt x i = bt y i) : x = y := Int32.toBitVec_inj.mp (BitVec.eq_of_getLsbD_eq (fun i hi => h i hi))
theorem b_or (x y : Int32) (i : Nat) : bt (x ||| y) i = (bt x i || bt y i) := by unfold bt; rw [Int32.toBitVec_or, BitVec.getLsbD_or]
theorem b_and (x y : Int32) (i : Nat) : bt (x &&& y) i = (bt x i && bt y i) := by unfold bt; rw [Int32.toBitVec_and, BitVec.getLsbD_and]
theorem b_xor (x y : Int32) (i : Nat) : bt (x ^^^ y) i = (bt x i ^^ bt y i) := by unfold bt; rw [Int32.toBitVec_xor, BitVec.getLsbD_xor]
theorem b_big {x : Int32} {i : Nat} (h : 32 ≤ i) : bt x i = false := BitVec.getLsbD_of_ge _ _ h
theorem b_65535 (i : Nat) : bt 65535 i = decide (i < 16) := by
  rcases Nat.lt_or_ge i 32 with h | h
  · exact (by decide +kernel : ∀ i, i < 32 → bt 65535 i = decide (i < 16)) i h
  · rw [b_big h, decide_eq_false (by omega)]
theorem b_m1 : ∀ i, i < 32 → bt (-1) i = true := by decide +kernel
theorem b_0 (i : Nat) : bt 0 i = false := BitVec.getLsbD_zero
theorem s_l : ∀ n, n < 32 → ((nI n &&& 31).toBitVec.smod 32).toNat = n := by decide +kernel
theorem b_shl (n : Nat) (hn : n < 32) (x : Int32) {i : Nat} (hi : i < 32) : bt (x <<< (nI n &&& 31)) i = (decide (n ≤ i) && bt x (i - n)) := by
  unfold bt
  rw [Int32.toBitVec_shiftLeft]
  show (x.toBitVec <<< ((nI n &&& 31).toBitVec.smod 32).toNat).getLsbD i = _
  rw [s_l n hn, BitVec.getLsbD_shiftLeft]
  rcases Nat.lt_or_ge i n with h | h
  · simp [h, Nat.not_le.mpr h]
  · simp [hi, h, Nat.not_lt.mpr h]
/-! ===== the bitmap of the sixteen sources, and its bits (own rows from here on) ===== -/
/-- the reference's sum over the first k sources -/
def iq_bm (a : Nat → Int32) : Nat → Int32
  | 0 => 0
  | k + 1 => if a k = 0 then iq_bm a k else iq_bm a k + ((1 : Int32) <<< (nI k &&& 31))
theorem iq_b1 (i : Nat) : bt 1 i = decide (i = 0) := by
  rcases Nat.lt_or_ge i 32 with h | h
  · exact (by decide +kernel : ∀ i, i < 32 → bt 1 i = decide (i = 0)) i h
  · rw [b_big h, decide_eq_false (by omega)]
theorem iq_bit {k i : Nat} (hk : k < 32) (hi : i < 32) : bt ((1 : Int32) <<< (nI k &&& 31)) i = decide (i = k) := by
  rw [b_shl k hk 1 hi, iq_b1]
  by_cases e : i = k
  · subst e
    simp
  · rw [decide_eq_false e]
    by_cases h : k ≤ i
    · rw [decide_eq_false (p := i - k = 0) (by omega), Bool.and_false]
    · rw [decide_eq_false h, Bool.false_and]
theorem iq_add {x y : Int32} (h : x &&& y = 0) : x + y = x ||| y := by
  apply Int32.toBitVec_inj.mp
  rw [Int32.toBitVec_add, Int32.toBitVec_or]
  apply BitVec.add_eq_or_of_and_eq_zero
  rw [← Int32.toBitVec_and, h]
  rfl
theorem iq_lt {i k : Nat} (e : ¬ i = k) : decide (i < k + 1) = decide (i < k) := by
  by_cases l : i < k
  · rw [decide_eq_true l, decide_eq_true (p := i < k + 1) (by omega)]
  · rw [decide_eq_false l, decide_eq_false (p := i < k + 1) (by omega)]
theorem iq_bits (a : Nat → Int32) : ∀ k, k ≤ 16 → ∀ i, i < 32 → bt (iq_bm a k) i = (decide (i < k) && !decide (a i = 0)) := by
  intro k
  induction k with
  | zero =>
    intro _ i _
    show bt 0 i = _
    rw [b_0, decide_eq_false (p := i < 0) (by omega), Bool.false_and]
  | succ k ih =>
    intro hk i hi
    have IH := ih (by omega)
    show bt (if a k = 0 then iq_bm a k else iq_bm a k + ((1 : Int32) <<< (nI k &&& 31))) i = _
    by_cases z : a k = 0
    · rw [if_pos z, IH i hi]
      by_cases e : i = k
      · subst e
        rw [decide_eq_true z, Bool.not_true, Bool.and_false, Bool.and_false]
      · rw [iq_lt e]
    · have hz : iq_bm a k &&& ((1 : Int32) <<< (nI k &&& 31)) = 0 := by
        apply b_ext
        intro j hj
        rw [b_and, IH j hj, iq_bit (by omega) hj, b_0]
        by_cases e : j = k
        · subst e
          rw [decide_eq_false (p := j < j) (by omega), Bool.false_and, Bool.false_and]
        · rw [decide_eq_false e, Bool.and_false]
      rw [if_neg z, iq_add hz, b_or, IH i hi, iq_bit (by omega) hi]
      by_cases e : i = k
      · subst e
        rw [decide_eq_true (p := i = i) rfl, decide_eq_true (p := i < i + 1) (by omega), decide_eq_false z, Bool.or_true]
        rfl
      · rw [iq_lt e, decide_eq_false e, Bool.or_false]
theorem iq_mask (a : Nat → Int32) : iq_bm a 16 &&& 65535 = iq_bm a 16 := by
  apply b_ext
  intro i hi
  rw [b_and, iq_bits a 16 (by omega) i hi, b_65535]
  cases decide (i < 16) <;> cases decide (a i = 0) <;> rfl
theorem iq_zero : iq_bm (fun _ => 0) 16 = 0 := by
  apply b_ext
  intro i hi
  rw [iq_bits (fun _ => 0) 16 (by omega) i hi, b_0, decide_eq_true (p := (0 : Int32) = 0) rfl, Bool.not_true, Bool.and_false]
theorem iq_us {f : Nat → Int32} {k : Nat} {x : Int32} : upd f k x k = x := if_pos rfl
theorem iq_un {f : Nat → Int32} {k j : Nat} {x : Int32} (h : ¬ j = k) : upd f k x j = f j := if_neg h
/-- a source cleared -/
theorem iq_clr (a : Nat → Int32) {j : Nat} (hj : j < 16) : (iq_bm a 16 &&& (((1 : Int32) <<< (nI j &&& 31)) ^^^ (-1))) &&& 65535 = iq_bm (upd a j 0) 16 := by
  apply b_ext
  intro i hi
  rw [b_and, b_and, b_xor, iq_bits a 16 (by omega) i hi, iq_bits (upd a j 0) 16 (by omega) i hi, iq_bit (by omega) hi, b_m1 i hi, b_65535]
  by_cases e : i = j
  · subst e
    rw [iq_us, decide_eq_true (p := i = i) rfl, decide_eq_true (p := (0 : Int32) = 0) rfl]
    cases decide (i < 16) <;> cases decide (a i = 0) <;> rfl
  · rw [iq_un e, decide_eq_false e]
    cases decide (i < 16) <;> cases decide (a i = 0) <;> rfl
/-- a source set -/
theorem iq_set (a : Nat → Int32) {j : Nat} (hj : j < 16) : (iq_bm a 16 ||| ((1 : Int32) <<< (nI j &&& 31))) &&& 65535 = iq_bm (upd a j 1) 16 := by
  apply b_ext
  intro i hi
  rw [b_and, b_or, iq_bits a 16 (by omega) i hi, iq_bits (upd a j 1) 16 (by omega) i hi, iq_bit (by omega) hi, b_65535]
  by_cases e : i = j
  · subst e
    rw [iq_us, decide_eq_true (p := i = i) rfl, decide_eq_false (p := (1 : Int32) = 0) (by decide), decide_eq_true hj]
    cases decide (a i = 0) <;> rfl
  · rw [iq_un e, decide_eq_false e]
    cases decide (i < 16) <;> cases decide (a i = 0) <;> rfl
end
section
/-! ===== the reference's bitmap() by the pure sum; small joins ===== -/
theorem iq_01 : ¬ (0 : Int32) = 1 := by decide
theorem iq_10 : ¬ (1 : Int32) = 0 := by decide
theorem iq_16 : nI 16 = 16 := by decide +kernel
theorem iq_n0 : narrow .boolean (.int 0) = .int 0 ∧ fits .boolean (.int 0) = true := ⟨rfl, by decide⟩
theorem iq_n1 : narrow .boolean (.int 1) = .int 1 ∧ fits .boolean (.int 1) = true := ⟨rfl, by decide⟩
/-- a boolean field takes 0 and 1 as they are -/
theorem iq_nf {z : Int32} (h : z = 0 ∨ z = 1) : narrow .boolean (.int z) = .int z ∧ fits .boolean (.int z) = true := by
  rcases h with rfl | rfl
  · exact iq_n0
  · exact iq_n1
theorem iq_loop {post : Int32 → Prop} (l t f d : Int32) (a : Nat → Int32) (hp : post (iq_bm a 16)) : ∀ m j : Nat, j + m = 16 → wY_bitmap_4 post l t f d a (m + 1) (iq_bm a j) (nI j) := by
  intro m
  induction m with
  | zero =>
    intro j hj
    have e : j = 16 := by omega
    subst e
    have h : (16 : Int32) ≤ nI 16 := by
      rw [iq_16]
      decide
    exact br_t h hp
  | succ m ih =>
    intro j hj
    have h : ¬ (16 : Int32) ≤ nI j := by
      rw [← iq_16]
      exact nI_ge (by omega) (by omega)
    have hi : vp_in (nI j) 16 := vp_in_nI (by omega) (by omega)
    have ec : (nI j).toNatClampNeg = j := nI_clamp (by omega)
    have IH := ih (j + 1) (by omega)
    by_cases z : a j = 0
    · have hb : iq_bm a (j + 1) = iq_bm a j := if_pos z
      have zc : a (nI j).toNatClampNeg = 0 := by
        rw [ec]
        exact z
      rw [hb] at IH
      exact br_f h ⟨hi, br_t zc (nm_r (nI_1 j) IH)⟩
    · have hb : iq_bm a (j + 1) = iq_bm a j + ((1 : Int32) <<< (nI j &&& 31)) := if_neg z
      have zc : ¬ a (nI j).toNatClampNeg = 0 := by
        rw [ec]
        exact z
      rw [hb] at IH
      exact br_f h ⟨hi, br_f zc (nm_e (nm_r (nI_1 j) IH))⟩
theorem iq_bitmap {post : Int32 → Prop} (l t f d : Int32) (a : Nat → Int32) (hp : post (iq_bm a 16)) : wpY_bitmap post (l, t, f, d, a) := by
  have h := iq_loop l t f d a hp 16 0 rfl
  rw [nI_0] at h
  exact ⟨17, h⟩
/-- setNmi's last join on the reference's side -/
theorem iq_y26 {post : Int32 → SY → Prop} {x2 l t f d : Int32} {a : Nat → Int32} (hx : x2 = 0 ∨ x2 = 1) (ht : t = 0 ∨ t = 1) (h : post t (x2, t, f, d, a)) : wY_setNmi_26 post x2 l t f d a := by
  refine ⟨(iq_nf hx).1, (iq_nf hx).2, ?_⟩
  rcases ht with rfl | rfl
  · exact br_t rfl h
  · exact br_f iq_10 h
/-- setNmi behind the choice of the new level, both sides -/
theorem iq_n9 {z0 l t : Int32} (hz : z0 = 0 ∨ z0 = 1) (hl : l = 0 ∨ l = 1) (ht : t = 0 ∨ t = 1) (s f d : Int32) (a : Nat → Int32) :
    ∃ t' : Int32, (t' = 0 ∨ t' = 1) ∧ (∀ post : Int32 → SX → Prop, post t' (z0, t', s, f, d) → wX_setNmi_9 post z0 l t s f d) ∧ (∀ post : Int32 → SY → Prop, post t' (z0, t', f, d, a) → wY_setNmi_9 post z0 l t f d a) := by
  rcases hl with rfl | rfl
  · exact ⟨t, ht, fun post h => br_f iq_01 h, fun post h => br_t rfl (iq_y26 hz ht h)⟩
  · rcases hz with rfl | rfl
    · exact ⟨1, Or.inr rfl, fun post h => br_t rfl (br_t rfl h), fun post h => br_f iq_10 (br_t rfl (iq_y26 (Or.inl rfl) (Or.inr rfl) h))⟩
    · exact ⟨t, ht, fun post h => br_t rfl (br_f iq_10 h), fun post h => br_f iq_10 (br_f iq_10 (iq_y26 (Or.inr rfl) ht h))⟩
/-! ===== state(): each of the reference's choices is a shifted 0 or 1 ===== -/
theorem iq_s45 {post : Int32 → Prop} {z0 z1 l t f d : Int32} {a : Nat → Int32} (hl : l = 0 ∨ l = 1) (h : post ((z1 ||| z0) ||| l)) : wY_state_45 post z0 z1 l t f d a := by
  rcases hl with rfl | rfl
  · exact br_t rfl h
  · exact br_f iq_10 h
theorem iq_s32 {post : Int32 → Prop} {z0 z1 l t f d : Int32} {a : Nat → Int32} (hl : l = 0 ∨ l = 1) (ht : t = 0 ∨ t = 1) (h : post (((z1 ||| z0) ||| (t <<< ((1 : Int32) &&& 31))) ||| l)) : wY_state_32 post z0 z1 l t f d a := by
  rcases ht with rfl | rfl
  · rw [show (0 : Int32) <<< ((1 : Int32) &&& 31) = 0 from by decide] at h
    exact br_t rfl (iq_s45 hl h)
  · rw [show (1 : Int32) <<< ((1 : Int32) &&& 31) = 2 from by decide] at h
    exact br_f iq_10 (iq_s45 hl h)
theorem iq_s19 {post : Int32 → Prop} {z0 z1 l t f d : Int32} {a : Nat → Int32} (hl : l = 0 ∨ l = 1) (ht : t = 0 ∨ t = 1) (hf : f = 0 ∨ f = 1) (h : post ((((z1 ||| z0) ||| (f <<< ((2 : Int32) &&& 31))) ||| (t <<< ((1 : Int32) &&& 31))) ||| l)) : wY_state_19 post z0 z1 l t f d a := by
  rcases hf with rfl | rfl
  · rw [show (0 : Int32) <<< ((2 : Int32) &&& 31) = 0 from by decide] at h
    exact br_t rfl (iq_s32 hl ht h)
  · rw [show (1 : Int32) <<< ((2 : Int32) &&& 31) = 4 from by decide] at h
    exact br_f iq_10 (iq_s32 hl ht h)
theorem iq_sY {post : Int32 → Prop} {l t f d : Int32} {a : Nat → Int32} (hl : l = 0 ∨ l = 1) (ht : t = 0 ∨ t = 1) (hf : f = 0 ∨ f = 1) (hd : d = 0 ∨ d = 1)
    (h : post (((((iq_bm a 16 <<< ((4 : Int32) &&& 31)) ||| (d <<< ((3 : Int32) &&& 31))) ||| (f <<< ((2 : Int32) &&& 31))) ||| (t <<< ((1 : Int32) &&& 31))) ||| l)) : wpY_state post (l, t, f, d, a) := by
  unfold wpY_state
  dsimp only
  refine iq_bitmap l t f d a ?_
  rcases hd with rfl | rfl
  · rw [show (0 : Int32) <<< ((3 : Int32) &&& 31) = 0 from by decide] at h
    exact br_t rfl (iq_s19 hl ht hf h)
  · rw [show (1 : Int32) <<< ((3 : Int32) &&& 31) = 8 from by decide] at h
    exact br_f iq_10 (iq_s19 hl ht hf h)
theorem iq_ac (s d f t l : Int32) : (((s ||| d) ||| f) ||| t) ||| l = (((l ||| t) ||| f) ||| d) ||| s := by ac_rfl
end
section
/-! ===== WHAT IS OWED for IrqLines over the printed walks (N 1536, H 0, W 3): a relation, and one pure statement a case ===== -/
/-- the four flags are the same 0 or 1 on both sides; the component's sources are the sum of the reference's sixteen -/
def i_Rel (_ : Nat) (u : SX) (v : SY) : Prop := ∃ (l t f d : Int32) (a : Nat → Int32), (l = 0 ∨ l = 1) ∧ (t = 0 ∨ t = 1) ∧ (f = 0 ∨ f = 1) ∧ (d = 0 ∨ d = 1) ∧ u = (l, t, iq_bm a 16, f, d) ∧ v = (l, t, f, d, a)
theorem iq_mk {k : Nat} {l t f d : Int32} {a : Nat → Int32} (hl : l = 0 ∨ l = 1) (ht : t = 0 ∨ t = 1) (hf : f = 0 ∨ f = 1) (hd : d = 0 ∨ d = 1) : i_Rel k (l, t, iq_bm a 16, f, d) (l, t, f, d, a) := ⟨l, t, f, d, a, hl, ht, hf, hd, rfl, rfl⟩
theorem i_up {k : Nat} {u : SX} {v : SY} (h : i_Rel k u v) : i_Rel (k + 3) u v := h
theorem i_vc0 : wpX_init (fun u => wpY_init (fun v => i_Rel 0 u v)) := by
  have h : i_Rel 0 (1, 0, iq_bm (fun _ => 0) 16, 1, 1) (1, 0, 1, 1, (fun _ => 0)) := iq_mk (Or.inr rfl) (Or.inl rfl) (Or.inr rfl) (Or.inr rfl)
  rw [iq_zero] at h
  exact h
theorem i_vc_setNmi {k : Nat} {u : SX} {v : SY} (I : i_Rel k u v) (hk : k + 3 ≤ 1536) (v1 : Int32) : wpX_setNmi (fun r u' => wpY_setNmi (fun r' v' => r' = r ∧ i_Rel (k + 3) u' v') v v1) u v1 := by
  obtain ⟨l, t, f, d, a, hl, ht, hf, hd, rfl, rfl⟩ := I
  by_cases z : v1 = 0
  · obtain ⟨t', h', hX, hY⟩ := iq_n9 (z0 := 0) (Or.inl rfl) hl ht (iq_bm a 16) f d a
    exact br_t z (hX _ (br_t z (hY _ ⟨rfl, iq_mk (Or.inl rfl) h' hf hd⟩)))
  · obtain ⟨t', h', hX, hY⟩ := iq_n9 (z0 := 1) (Or.inr rfl) hl ht (iq_bm a 16) f d a
    exact br_f z (hX _ (br_f z (hY _ ⟨rfl, iq_mk (Or.inr rfl) h' hf hd⟩)))
theorem i_vc_setIrq {k : Nat} {u : SX} {v : SY} (I : i_Rel k u v) (hk : k + 3 ≤ 1536) (v1 : Int32) (v2 : Int32) : wpX_setIrq (fun r u' => wpY_setIrq (fun r' v' => r' = r ∧ i_Rel (k + 3) u' v') v v1 v2) u v1 v2 := by
  obtain ⟨l, t, f, d, a, hl, ht, hf, hd, rfl, rfl⟩ := I
  by_cases h0 : v1 < 0
  · exact br_t h0 (br_t h0 ⟨rfl, iq_mk hl ht hf hd⟩)
  · by_cases h15 : v1 ≤ 15
    · obtain ⟨j, hj, rfl⟩ := nI_of2 (M := 15) (n := 15) (by decide) h0 h15
      have hi : vp_in (nI j) 16 := vp_in_nI (by omega) (by omega)
      have ec : (nI j).toNatClampNeg = j := nI_clamp (by omega)
      by_cases z : v2 = 0
      · have eu : upd a (nI j).toNatClampNeg (vp_nar .boolean 0) = upd a j 0 := by
          rw [ec]
          rfl
        exact br_f h0 (br_t h15 (nm_e (br_t z (nm_e (nm_r (iq_clr a (by omega)) (br_f h0 (br_t h15 (br_t z ⟨hi, nm_r eu (iq_bitmap l t f d (upd a j 0) ⟨rfl, iq_mk hl ht hf hd⟩)⟩))))))))
      · have eu : upd a (nI j).toNatClampNeg (vp_nar .boolean 1) = upd a j 1 := by
          rw [ec]
          rfl
        exact br_f h0 (br_t h15 (nm_e (br_f z (nm_e (nm_r (iq_set a (by omega)) (br_f h0 (br_t h15 (br_f z ⟨hi, nm_r eu (iq_bitmap l t f d (upd a j 1) ⟨rfl, iq_mk hl ht hf hd⟩)⟩))))))))
    · exact br_f h0 (br_f h15 (br_f h0 (br_f h15 ⟨rfl, iq_mk hl ht hf hd⟩)))
theorem i_vc_setI {k : Nat} {u : SX} {v : SY} (I : i_Rel k u v) (hk : k + 3 ≤ 1536) (v1 : Int32) : wpX_setI (fun r u' => wpY_setI (fun r' v' => r' = r ∧ i_Rel (k + 3) u' v') v v1) u v1 := by
  obtain ⟨l, t, f, d, a, hl, ht, hf, hd, rfl, rfl⟩ := I
  have hn := iq_nf hf
  by_cases z : v1 = 0
  · refine br_t z ⟨hn.1, hn.2, ?_⟩
    rcases hf with rfl | rfl
    · exact br_t rfl (br_t z ⟨rfl, iq_mk hl ht (Or.inl rfl) (Or.inl rfl)⟩)
    · exact br_f iq_10 (br_t z ⟨rfl, iq_mk hl ht (Or.inl rfl) (Or.inr rfl)⟩)
  · refine br_f z ⟨hn.1, hn.2, ?_⟩
    rcases hf with rfl | rfl
    · exact br_t rfl (br_f z ⟨rfl, iq_mk hl ht (Or.inr rfl) (Or.inl rfl)⟩)
    · exact br_f iq_10 (br_f z ⟨rfl, iq_mk hl ht (Or.inr rfl) (Or.inr rfl)⟩)
theorem i_vc_poll {k : Nat} {u : SX} {v : SY} (I : i_Rel k u v) (hk : k + 3 ≤ 1536) : wpX_poll (fun r u' => wpY_poll (fun r' v' => r' = r ∧ i_Rel (k + 3) u' v') v) u := by
  obtain ⟨l, t, f, d, a, hl, ht, hf, hd, rfl, rfl⟩ := I
  have hn := iq_nf hf
  rcases ht with rfl | rfl
  · by_cases s : iq_bm a 16 = 0
    · exact br_f iq_01 (br_t s (br_t rfl (iq_bitmap l 0 f d a (br_t s ⟨hn.1, hn.2, rfl, iq_mk hl (Or.inl rfl) hf hf⟩))))
    · by_cases e : d = 0
      · exact br_f iq_01 (br_f s (br_t e (br_t rfl (iq_bitmap l 0 f d a (br_f s (br_t e ⟨hn.1, hn.2, rfl, iq_mk hl (Or.inl rfl) hf hf⟩))))))
      · exact br_f iq_01 (br_f s (br_f e (br_t rfl (iq_bitmap l 0 f d a (br_f s (br_f e ⟨hn.1, hn.2, rfl, iq_mk hl (Or.inl rfl) hf hf⟩))))))
  · exact br_t rfl (br_f iq_10 ⟨hn.1, hn.2, rfl, iq_mk hl (Or.inl rfl) hf hf⟩)
theorem i_vc_state {k : Nat} {u : SX} {v : SY} (I : i_Rel k u v) (hk : k + 3 ≤ 1536) : wpX_state (fun r => wpY_state (fun r' => r' = r ∧ i_Rel (k + 3) u v) v) u := by
  obtain ⟨l, t, f, d, a, hl, ht, hf, hd, rfl, rfl⟩ := I
  unfold wpX_state
  dsimp only
  refine iq_sY hl ht hf hd ⟨?_, iq_mk hl ht hf hd⟩
  rw [iq_mask]
  exact iq_ac _ _ _ _ _
end
