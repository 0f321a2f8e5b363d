section
/-! bits of an Int32: kb_t x i (the rows kb_t .. kb_0 began as rows of laws/BITS.to-paste) -/
def kb_t (x : Int32) (i : Nat) : Bool := x.toBitVec.getLsbD i
theorem kb_ext {x y : Int32} (h : ∀ i, i < 32 → kb_t x i = kb_t y i) : x = y := Int32.toBitVec_inj.mp (BitVec.eq_of_getLsbD_eq (fun i hi => h i hi))
theorem kb_or (x y : Int32) (i : Nat) : kb_t (x ||| y) i = (kb_t x i || kb_t y i) := by unfold kb_t; rw [Int32.toBitVec_or, BitVec.getLsbD_or]
theorem kb_and (x y : Int32) (i : Nat) : kb_t (x &&& y) i = (kb_t x i && kb_t y i) := by unfold kb_t; rw [Int32.toBitVec_and, BitVec.getLsbD_and]
theorem kb_xor (x y : Int32) (i : Nat) : kb_t (x ^^^ y) i = (kb_t x i ^^ kb_t y i) := by unfold kb_t; rw [Int32.toBitVec_xor, BitVec.getLsbD_xor]
theorem kb_m1 : ∀ i, i < 32 → kb_t (-1) i = true := by decide +kernel
theorem kb_0 (i : Nat) : kb_t 0 i = false := BitVec.getLsbD_zero
/-- what set stores is what the law reckons -/
theorem kb_set_eq (p q : Int32) : (p &&& 63) &&& (q ^^^ (-1)) = (p &&& 63) &&& ((q &&& 63) ^^^ (-1)) := by
  apply kb_ext
  intro i hi
  simp only [kb_and, kb_xor, kb_m1 i hi]
  cases kb_t p i <;> cases kb_t q i <;> cases kb_t 63 i <;> rfl
theorem kb_ap (v w m n : Int32) : ((v ^^^ w) &&& (m ^^^ (-1))) &&& (n ^^^ (-1)) = (v ^^^ w) &&& ((m ||| n) ^^^ (-1)) := by
  apply kb_ext
  intro i hi
  simp only [kb_and, kb_or, kb_xor, kb_m1 i hi]
  cases kb_t v i <;> cases kb_t w i <;> cases kb_t m i <;> cases kb_t n i <;> rfl
theorem kb_ap2 (v w m n : Int32) : ((w ^^^ v) &&& (n ^^^ (-1))) &&& (m ^^^ (-1)) = (v ^^^ w) &&& ((m ||| n) ^^^ (-1)) := by
  apply kb_ext
  intro i hi
  simp only [kb_and, kb_or, kb_xor, kb_m1 i hi]
  cases kb_t v i <;> cases kb_t w i <;> cases kb_t m i <;> cases kb_t n i <;> rfl
theorem kb_clr (o x : Int32) : o &&& ((x &&& (o ^^^ (-1))) ^^^ (-1)) = o := by
  apply kb_ext
  intro i hi
  simp only [kb_and, kb_xor, kb_m1 i hi]
  cases kb_t o i <;> cases kb_t x i <;> rfl
theorem kb_k6 (a b m n : Int32) : ((a &&& (m ^^^ (-1))) ||| (b &&& (n ^^^ (-1)))) &&& ((m &&& n) ^^^ (-1)) = (a &&& (m ^^^ (-1))) ||| (b &&& (n ^^^ (-1))) := by
  apply kb_ext
  intro i hi
  simp only [kb_and, kb_or, kb_xor, kb_m1 i hi]
  cases kb_t a i <;> cases kb_t b i <;> cases kb_t m i <;> cases kb_t n i <;> rfl
theorem kb_or0 {x y : Int32} (h : x ||| y = 0) : x = 0 ∧ y = 0 := by
  have e : ∀ i, (kb_t x i || kb_t y i) = false := fun i => by rw [← kb_or, h, kb_0]
  constructor
  · apply kb_ext
    intro i _
    have := e i
    rw [kb_0]
    cases hx : kb_t x i
    · rfl
    · rw [hx] at this
      exact absurd this (by simp)
  · apply kb_ext
    intro i _
    have := e i
    rw [kb_0]
    cases hy : kb_t y i
    · rfl
    · rw [hy] at this
      cases hx : kb_t x i <;> rw [hx] at this <;> exact absurd this (by decide)
theorem kb_or00 {x y : Int32} (hx : x = 0) (hy : y = 0) : x ||| y = 0 := by
  subst hx hy
  decide
/-- x lies in 0 .. 63 -/
def kb_S (x : Int32) : Prop := x &&& 63 = x
theorem kb_S_and (x : Int32) : kb_S (x &&& 63) := by
  apply kb_ext
  intro i hi
  simp only [kb_and]
  cases kb_t x i <;> cases kb_t 63 i <;> rfl
theorem kb_S_l {x : Int32} (y : Int32) (h : kb_S x) : kb_S (x &&& y) := by
  apply kb_ext
  intro i hi
  have e : (kb_t x i && kb_t 63 i) = kb_t x i := by rw [← kb_and]; exact congrArg (fun z => kb_t z i) h
  simp only [kb_and]
  rw [← e]
  cases kb_t x i <;> cases kb_t y i <;> cases kb_t 63 i <;> rfl
theorem kb_S_or {x y : Int32} (hx : kb_S x) (hy : kb_S y) : kb_S (x ||| y) := by
  apply kb_ext
  intro i hi
  have e : (kb_t x i && kb_t 63 i) = kb_t x i := by rw [← kb_and]; exact congrArg (fun z => kb_t z i) hx
  have f : (kb_t y i && kb_t 63 i) = kb_t y i := by rw [← kb_and]; exact congrArg (fun z => kb_t z i) hy
  simp only [kb_and, kb_or]
  rw [← e, ← f]
  cases kb_t x i <;> cases kb_t y i <;> cases kb_t 63 i <;> rfl
theorem kb_S_nI {x : Int32} (h : kb_S x) : ∃ j : Nat, j < 2 ^ 6 ∧ x = nI j := by
  obtain ⟨j, hj, e⟩ := pk_andE x (m := 63) 6 (by decide)
  exact ⟨j, hj, Eq.trans (Eq.symm h) e⟩
theorem kb_S_ge {x : Int32} (h : kb_S x) : (0 : Int32) ≤ x := by
  obtain ⟨j, hj, e⟩ := kb_S_nI h
  rw [e]
  exact nI_pos' (by omega)
theorem kb_S_nl {x : Int32} (h : kb_S x) : ¬ x < (0 : Int32) := by
  obtain ⟨j, hj, e⟩ := kb_S_nI h
  rw [e]
  exact nI_pos (by omega)
theorem kb_all : ∀ i, i < 32 → ((((((kb_t 63 i && kb_t (((1 : Int32) <<< ((5 : Int32) &&& 31)) ^^^ (-1)) i) && kb_t (((1 : Int32) <<< ((4 : Int32) &&& 31)) ^^^ (-1)) i) && kb_t (((1 : Int32) <<< ((3 : Int32) &&& 31)) ^^^ (-1)) i) && kb_t (((1 : Int32) <<< ((2 : Int32) &&& 31)) ^^^ (-1)) i) && kb_t (((1 : Int32) <<< ((1 : Int32) &&& 31)) ^^^ (-1)) i) && kb_t (((1 : Int32) <<< ((0 : Int32) &&& 31)) ^^^ (-1)) i) = false := by decide +kernel
/-- the six bits taken out, one by one, leave nothing -/
theorem kb_out (v : Int32) {m : Int32} (h : kb_S m) : v ||| ((((((m &&& (((1 : Int32) <<< ((5 : Int32) &&& 31)) ^^^ (-1))) &&& (((1 : Int32) <<< ((4 : Int32) &&& 31)) ^^^ (-1))) &&& (((1 : Int32) <<< ((3 : Int32) &&& 31)) ^^^ (-1))) &&& (((1 : Int32) <<< ((2 : Int32) &&& 31)) ^^^ (-1))) &&& (((1 : Int32) <<< ((1 : Int32) &&& 31)) ^^^ (-1))) &&& (((1 : Int32) <<< ((0 : Int32) &&& 31)) ^^^ (-1))) = v := by
  apply kb_ext
  intro i hi
  have e : (kb_t m i && kb_t 63 i) = kb_t m i := by rw [← kb_and]; exact congrArg (fun z => kb_t z i) h
  have a := kb_all i hi
  rw [kb_or, kb_and, kb_and, kb_and, kb_and, kb_and, kb_and]
  generalize kb_t (((1 : Int32) <<< ((5 : Int32) &&& 31)) ^^^ (-1)) i = b5 at a ⊢
  generalize kb_t (((1 : Int32) <<< ((4 : Int32) &&& 31)) ^^^ (-1)) i = b4 at a ⊢
  generalize kb_t (((1 : Int32) <<< ((3 : Int32) &&& 31)) ^^^ (-1)) i = b3 at a ⊢
  generalize kb_t (((1 : Int32) <<< ((2 : Int32) &&& 31)) ^^^ (-1)) i = b2 at a ⊢
  generalize kb_t (((1 : Int32) <<< ((1 : Int32) &&& 31)) ^^^ (-1)) i = b1 at a ⊢
  generalize kb_t (((1 : Int32) <<< ((0 : Int32) &&& 31)) ^^^ (-1)) i = b0 at a ⊢
  generalize kb_t m i = x at e ⊢
  generalize kb_t 63 i = s at e a
  generalize kb_t v i = y
  revert e a
  revert b5 b4 b3 b2 b1 b0 x s y
  decide +kernel
end
section
/-! one lemma a method -/
theorem kb_c0 : (0 : Int32).toNatClampNeg = 0 := pk_cl 0
theorem kb_c3 : (3 : Int32).toNatClampNeg = 3 := pk_cl 3
theorem kb_c5 : (5 : Int32).toNatClampNeg = 5 := pk_cl 5
theorem kb_i3 : vp_in (3 : Int32) 6 := pk_in 3 6 (by omega)
theorem kb_i5 : vp_in (5 : Int32) 6 := pk_in 5 6 (by omega)
theorem kb_10 : ¬ (1 : Int32) = 0 := by decide
theorem kb_reg {post : Int32 → Prop} {p0 : Int32} (k : Nat) (hk : k < 6) (h : post 1) (hp : p0 = nI k := by rfl) : wpX_isRegister post () p0 := by
  subst hp
  exact br_f (nI_pos (by omega)) (br_f (nI_nlt (a := 5) (b := k) (by omega) (by omega)) h)
theorem kb_set {post : Int32 → St2 → Prop} {f0 f1 p0 p1 p2 : Int32} {a1 a2 : Nat → Int32} (k : Nat) (hk : k < 6) (h : post 0 (f0, f1, upd a1 k ((p1 &&& 63) &&& (p2 ^^^ (-1))), upd a2 k (p2 &&& 63))) (hp : p0 = nI k := by rfl) : wpX_set post (f0, f1, a1, a2) p0 p1 p2 := by
  unfold wpX_set
  dsimp only
  rw [pk_cl k hp]
  exact kb_reg k hk (br_f kb_10 ⟨pk_in k 6 hk hp, nm_e ⟨pk_in k 6 hk hp, nm_e h⟩⟩) hp
theorem kb_value {post : Int32 → Prop} {f0 f1 p0 : Int32} {a1 a2 : Nat → Int32} (k : Nat) (hk : k < 6) (h : post (a1 k)) (hp : p0 = nI k := by rfl) : wpX_value post (f0, f1, a1, a2) p0 := by
  unfold wpX_value
  dsimp only
  rw [pk_cl k hp]
  exact kb_reg k hk (br_f kb_10 ⟨pk_in k 6 hk hp, h⟩) hp
theorem kb_mask {post : Int32 → Prop} {f0 f1 p0 : Int32} {a1 a2 : Nat → Int32} (k : Nat) (hk : k < 6) (h : post (a2 k)) (hp : p0 = nI k := by rfl) : wpX_mask post (f0, f1, a1, a2) p0 := by
  unfold wpX_mask
  dsimp only
  rw [pk_cl k hp]
  exact kb_reg k hk (br_f kb_10 ⟨pk_in k 6 hk hp, h⟩) hp
theorem kb_keep {post : St2 → Prop} {f0 f1 p0 : Int32} {a1 a2 : Nat → Int32} (k : Nat) (hk : k < 6) (h : post (f0, f1, upd a1 k f0, upd a2 k f1)) (hp : p0 = nI k := by rfl) : wpX_keep post (f0, f1, a1, a2) p0 := by
  unfold wpX_keep
  dsimp only
  rw [pk_cl k hp]
  exact ⟨pk_in k 6 hk hp, nm_e ⟨pk_in k 6 hk hp, nm_e h⟩⟩
theorem kb_218 {post : Int32 → St2 → Prop} {f0 f1 p0 : Int32} {a1 a2 : Nat → Int32} (k : Nat) (hk : k < 6) (h : post 0 (f0, f1, upd a1 k f0, upd a2 k f1)) (hp : p0 = nI k := by rfl) : wX_combine_218 post p0 f0 f1 a1 a2 := by
  unfold wX_combine_218
  exact kb_keep k hk h hp
/-- combine of 3 and 5, of a kind other than 6 -/
theorem kb_comb {post : Int32 → St2 → Prop} {f0 f1 p0 p1 : Int32} {a1 a2 : Nat → Int32} (k : Nat) (hk : k < 6) (h0 : ¬ p1 < 0) (h6 : p1 ≤ 6) (hn : ¬ p1 = 6) (h : wX_combine_79 post p0 p1 3 5 f0 f1 a1 a2) (hp : p0 = nI k := by rfl) : wpX_combine post (f0, f1, a1, a2) p0 p1 3 5 := by
  unfold wpX_combine
  dsimp only
  refine kb_reg k hk (br_f kb_10 ?_) hp
  refine kb_reg 3 (by omega) (br_f kb_10 ?_)
  refine kb_reg 5 (by omega) (br_f kb_10 ?_)
  exact br_f h0 (br_t h6 (br_f hn h))
theorem kb_comb2 {post : Int32 → St2 → Prop} {f0 f1 : Int32} {a1 a2 : Nat → Int32} (h : ∀ v w m n : Int32, a1 3 = v → a1 5 = w → a2 3 = m → a2 5 = n → post 0 (v &&& w, ((v ||| m) &&& (w ||| n)) &&& ((v &&& w) ^^^ (-1)), upd a1 0 (v &&& w), upd a2 0 (((v ||| m) &&& (w ||| n)) &&& ((v &&& w) ^^^ (-1))))) : wpX_combine post (f0, f1, a1, a2) 0 2 3 5 := by
  refine kb_comb 0 (by omega) (by decide) (by decide) (by decide) ?_
  unfold wX_combine_79
  refine br_f (by decide) (br_f (by decide) (br_f (by decide) ?_))
  unfold wpX_bitwise
  dsimp only
  rw [kb_c3, kb_c5]
  exact br_t rfl ⟨kb_i3, kb_i5, nm_e ⟨kb_i3, kb_i3, kb_i5, kb_i5, nm_e (kb_218 0 (by omega) (h _ _ _ _ rfl rfl rfl rfl))⟩⟩
theorem kb_comb3 {post : Int32 → St2 → Prop} {f0 f1 : Int32} {a1 a2 : Nat → Int32} (h : ∀ v w m n : Int32, a1 3 = v → a1 5 = w → a2 3 = m → a2 5 = n → post 0 (v ||| w, (m ||| n) &&& ((v ||| w) ^^^ (-1)), upd a1 0 (v ||| w), upd a2 0 ((m ||| n) &&& ((v ||| w) ^^^ (-1))))) : wpX_combine post (f0, f1, a1, a2) 0 3 3 5 := by
  refine kb_comb 0 (by omega) (by decide) (by decide) (by decide) ?_
  unfold wX_combine_79
  refine br_f (by decide) (br_f (by decide) (br_f (by decide) ?_))
  unfold wpX_bitwise
  dsimp only
  rw [kb_c3, kb_c5]
  exact br_f (by decide) (br_t rfl ⟨kb_i3, kb_i5, nm_e ⟨kb_i3, kb_i5, nm_e (kb_218 0 (by omega) (h _ _ _ _ rfl rfl rfl rfl))⟩⟩)
theorem kb_comb4 {post : Int32 → St2 → Prop} {f0 f1 : Int32} {a1 a2 : Nat → Int32} (h : ∀ v w m n : Int32, a1 3 = v → a1 5 = w → a2 3 = m → a2 5 = n → post 0 ((v ^^^ w) &&& ((m ||| n) ^^^ (-1)), m ||| n, upd a1 0 ((v ^^^ w) &&& ((m ||| n) ^^^ (-1))), upd a2 0 (m ||| n))) : wpX_combine post (f0, f1, a1, a2) 0 4 3 5 := by
  refine kb_comb 0 (by omega) (by decide) (by decide) (by decide) ?_
  unfold wX_combine_79
  refine br_f (by decide) (br_f (by decide) (br_f (by decide) ?_))
  unfold wpX_bitwise
  dsimp only
  rw [kb_c3, kb_c5]
  exact br_f (by decide) (br_f (by decide) ⟨kb_i3, kb_i5, nm_e ⟨kb_i3, kb_i5, nm_e (kb_218 0 (by omega) (h _ _ _ _ rfl rfl rfl rfl))⟩⟩)
theorem kb_comb5 {post : Int32 → St2 → Prop} {f0 f1 : Int32} {a1 a2 : Nat → Int32} (h : ∀ v w m n : Int32, a1 3 = v → a1 5 = w → a2 3 = m → a2 5 = n → post 0 (v &&& (((m ||| n) ||| (v ^^^ w)) ^^^ (-1)), (m ||| n) ||| (v ^^^ w), upd a1 0 (v &&& (((m ||| n) ||| (v ^^^ w)) ^^^ (-1))), upd a2 0 ((m ||| n) ||| (v ^^^ w)))) : wpX_combine post (f0, f1, a1, a2) 0 5 3 5 := by
  refine kb_comb 0 (by omega) (by decide) (by decide) (by decide) ?_
  unfold wX_combine_79
  rw [kb_c3, kb_c5]
  refine br_f (by decide) (br_f (by decide) (br_t (by decide) (br_t rfl ?_)))
  exact ⟨kb_i3, kb_i5, kb_i3, kb_i5, nm_e ⟨kb_i3, nm_e (kb_218 0 (by omega) (h _ _ _ _ rfl rfl rfl rfl))⟩⟩
/-- combine of kind 6 into the register k: the two may meet, or they don't -/
theorem kb_comb6 {post : Int32 → St2 → Prop} {f0 f1 p0 v w m n : Int32} {a1 a2 : Nat → Int32} (k : Nat) (hk : k < 6) (e13 : a1 3 = v) (e15 : a1 5 = w) (e23 : a2 3 = m) (e25 : a2 5 = n)
    (h : (v ^^^ w) &&& ((m ||| n) ^^^ (-1)) = 0 → post 0 (v ||| w, m &&& n, upd a1 k (v ||| w), upd a2 k (m &&& n)))
    (g : ¬ (v ^^^ w) &&& ((m ||| n) ^^^ (-1)) = 0 → post (-2) (f0, f1, a1, a2)) (hp : p0 = nI k := by rfl) : wpX_combine post (f0, f1, a1, a2) p0 6 3 5 := by
  subst e13 e15 e23 e25
  unfold wpX_combine
  dsimp only
  rw [kb_c3, kb_c5]
  refine kb_reg k hk (br_f kb_10 ?_) hp
  refine kb_reg 3 (by omega) (br_f kb_10 ?_)
  refine kb_reg 5 (by omega) (br_f kb_10 ?_)
  refine br_f (by decide) (br_t (by decide) (br_t rfl ⟨kb_i3, kb_i5, kb_i3, kb_i5, ?_⟩))
  rw [kb_ap]
  refine br_c (fun z => ?_) g
  unfold wX_combine_79
  rw [kb_c3, kb_c5]
  refine br_f (by decide) (br_f (by decide) (br_t (by decide) (br_f (by decide) ?_)))
  exact ⟨kb_i3, kb_i5, nm_e ⟨kb_i3, kb_i5, nm_e (kb_218 k hk (h z) hp)⟩⟩
theorem kb_ceq {post : Int32 → Prop} {f0 f1 p0 p1 : Int32} {a1 a2 : Nat → Int32} (i j : Nat) (hi : i < 6) (hj : j < 6)
    (h0 : ¬ ((a1 i ^^^ a1 j) &&& (a2 i ^^^ (-1))) &&& (a2 j ^^^ (-1)) = 0 → post 0)
    (h1 : ((a1 i ^^^ a1 j) &&& (a2 i ^^^ (-1))) &&& (a2 j ^^^ (-1)) = 0 → a2 i = 0 → a2 j = 0 → post 1)
    (h2 : ((a1 i ^^^ a1 j) &&& (a2 i ^^^ (-1))) &&& (a2 j ^^^ (-1)) = 0 → ¬ (a2 i = 0 ∧ a2 j = 0) → post 2)
    (hp : p0 = nI i := by rfl) (hq : p1 = nI j := by rfl) : wpX_compareEqual post (f0, f1, a1, a2) p0 p1 := by
  unfold wpX_compareEqual
  dsimp only
  rw [pk_cl i hp, pk_cl j hq]
  have i1 := pk_in i 6 hi hp
  have i2 := pk_in j 6 hj hq
  exact ⟨i1, i2, i1, i2, br_c (fun c => ⟨i1, br_c (fun x => ⟨i2, br_c (fun y => h1 c x y) (fun y => h2 c (fun t => y t.2))⟩) (fun x => h2 c (fun t => x t.1))⟩) h0⟩
theorem kb_cmp305 {post : Int32 → Prop} {f0 f1 v w m n : Int32} {a1 a2 : Nat → Int32} (e13 : a1 3 = v) (e15 : a1 5 = w) (e23 : a2 3 = m) (e25 : a2 5 = n)
    (h0 : ¬ (v ^^^ w) &&& ((m ||| n) ^^^ (-1)) = 0 → post 0)
    (h1 : (v ^^^ w) &&& ((m ||| n) ^^^ (-1)) = 0 → m ||| n = 0 → post 1)
    (h2 : (v ^^^ w) &&& ((m ||| n) ^^^ (-1)) = 0 → ¬ m ||| n = 0 → post 2) : wpX_compare post (f0, f1, a1, a2) 3 0 5 := by
  subst e13 e15 e23 e25
  rw [← kb_ap] at h0 h1 h2
  unfold wpX_compare
  dsimp only
  refine kb_reg 3 (by omega) (br_f kb_10 ?_)
  refine kb_reg 5 (by omega) (br_f kb_10 ?_)
  refine br_f (by decide) (br_t (by decide) (br_t rfl ?_))
  unfold wX_compare_34
  exact kb_ceq 3 5 (by omega) (by omega) (fun c => br_t rfl (h0 c)) (fun c x y => br_t rfl (h1 c (kb_or00 x y))) (fun c t => br_t rfl (h2 c (fun z => t (kb_or0 z))))
theorem kb_cmp533 {post : Int32 → Prop} {f0 f1 v w m n : Int32} {a1 a2 : Nat → Int32} (e13 : a1 3 = v) (e15 : a1 5 = w) (e23 : a2 3 = m) (e25 : a2 5 = n)
    (h0 : ¬ (v ^^^ w) &&& ((m ||| n) ^^^ (-1)) = 0 → post 1)
    (h1 : (v ^^^ w) &&& ((m ||| n) ^^^ (-1)) = 0 → m ||| n = 0 → post 0)
    (h2 : (v ^^^ w) &&& ((m ||| n) ^^^ (-1)) = 0 → ¬ m ||| n = 0 → post 2) : wpX_compare post (f0, f1, a1, a2) 5 3 3 := by
  subst e13 e15 e23 e25
  rw [← kb_ap2] at h0 h1 h2
  unfold wpX_compare
  dsimp only
  refine kb_reg 5 (by omega) (br_f kb_10 ?_)
  refine kb_reg 3 (by omega) (br_f kb_10 ?_)
  refine br_f (by decide) (br_t (by decide) (br_f (by decide) (br_t rfl ?_)))
  unfold wX_compare_34
  exact kb_ceq 5 3 (by omega) (by omega) (fun c => br_f (by decide) (br_f (by decide) (ek_v (P := post) (by decide : (1 : Int32) - 0 = 1) (h0 c)))) (fun c x y => br_f (by decide) (br_f (by decide) (ek_v (P := post) (by decide : (1 : Int32) - 1 = 0) (h1 c (kb_or00 y x))))) (fun c t => br_f (by decide) (br_t rfl (h2 c (fun z => t (And.intro (kb_or0 z).2 (kb_or0 z).1)))))
theorem kb_great {post : Int32 → Prop} {f0 f1 p0 : Int32} {a1 a2 : Nat → Int32} (k : Nat) (hk : k < 6) (h : post (a1 k ||| a2 k)) (hp : p0 = nI k := by rfl) : wpX_greatest post (f0, f1, a1, a2) p0 := by
  unfold wpX_greatest
  dsimp only
  rw [pk_cl k hp]
  exact ⟨pk_in k 6 hk hp, pk_in k 6 hk hp, h⟩
theorem kb_cmp315 {post : Int32 → Prop} {f0 f1 v w m n : Int32} {a1 a2 : Nat → Int32} (e13 : a1 3 = v) (e15 : a1 5 = w) (e23 : a2 3 = m) (e25 : a2 5 = n)
    (h2 : w ≤ v ||| m → v < w ||| n → post 2) (h0 : w ≤ v ||| m → ¬ v < w ||| n → post 0) (h1 : ¬ w ≤ v ||| m → post 1) : wpX_compare post (f0, f1, a1, a2) 3 1 5 := by
  subst e13 e15 e23 e25
  unfold wpX_compare
  dsimp only
  refine kb_reg 3 (by omega) (br_f kb_10 ?_)
  refine kb_reg 5 (by omega) (br_f kb_10 ?_)
  refine br_f (by decide) (br_t (by decide) (br_f (by decide) (br_f (by decide) (br_t rfl ?_))))
  unfold wX_compare_72 wpX_compareLess
  dsimp only
  rw [kb_c3, kb_c5]
  refine kb_great 3 (by omega) ⟨kb_i5, br_c (fun c => ⟨kb_i3, ?_⟩) (fun c => br_t rfl (h1 c))⟩
  exact kb_great 5 (by omega) (br_c (fun d => br_t rfl (h2 c d)) (fun d => br_t rfl (h0 c d)))
/-! leastFrom of 0 -/
theorem kb_lf_s {post : Int32 → Prop} {v x3 : Int32} {n : Nat} (x4 x4' : Int32) (h4 : ¬ x4 < 0) (e : x4 + (-1) = x4') (hv : kb_S v) (h3 : kb_S x3) (h : wX_leastFrom_15 post v 0 n (x3 &&& (((1 : Int32) <<< (x4 &&& 31)) ^^^ (-1))) x4') : wX_leastFrom_15 post v 0 (n + 1) x3 x4 :=
  br_f h4 (nm_e (br_f (kb_S_nl (kb_S_or hv (kb_S_l _ h3))) (nm_r e h)))
theorem kb_lf {post : Int32 → Prop} {v m : Int32} (hv : kb_S v) (hm : kb_S m) (h : post v) : wpX_leastFrom post () v m 0 := by
  refine br_t (kb_S_ge (kb_S_or hv hm)) ⟨7, ?_⟩
  refine kb_lf_s 5 4 (by decide) (by decide) hv hm ?_
  refine kb_lf_s 4 3 (by decide) (by decide) hv (kb_S_l _ hm) ?_
  refine kb_lf_s 3 2 (by decide) (by decide) hv (kb_S_l _ (kb_S_l _ hm)) ?_
  refine kb_lf_s 2 1 (by decide) (by decide) hv (kb_S_l _ (kb_S_l _ (kb_S_l _ hm))) ?_
  refine kb_lf_s 1 0 (by decide) (by decide) hv (kb_S_l _ (kb_S_l _ (kb_S_l _ (kb_S_l _ hm)))) ?_
  refine kb_lf_s 0 (-1) (by decide) (by decide) hv (kb_S_l _ (kb_S_l _ (kb_S_l _ (kb_S_l _ (kb_S_l _ hm))))) ?_
  exact br_t (by decide) (ek_v (P := post) (kb_out v hm) h)
theorem kb_least {post : Int32 → Prop} {f0 f1 v m : Int32} {a1 a2 : Nat → Int32} (e1 : a1 3 = v) (e2 : a2 3 = m) (hv : kb_S v) (hm : kb_S m) (h : post v) : wpX_least post (f0, f1, a1, a2) 3 0 := by
  subst e1 e2
  unfold wpX_least
  dsimp only
  rw [kb_c3]
  exact kb_reg 3 (by omega) (br_f kb_10 ⟨kb_i3, kb_i3, kb_lf hv hm h⟩)
/-! bits, rank, count: what they answer is a function of value and mask -/
def kb_bn (x : Int32) : Nat → Int32
  | 0 => 0
  | k + 1 => kb_bn x k + ((x >>> (nI k &&& 31)) &&& 1)
theorem kb_bits {post : Int32 → Prop} {x : Int32} (h : post (kb_bn x 6)) : wpX_bits post () x :=
  pk_loop (fun n i s => wX_bits_4 post x n s (nI i)) (fun i s => s = kb_bn x i) 6 0 0 (by omega) rfl
    (fun n s e => pk_le 6 6 (fun _ => ek_v (P := post) e h) (fun z => absurd z (by omega)))
    (fun n i s hi e hw => pk_le 6 i (fun z => absurd z (by omega)) (fun _ => nm_e (nm_r (nI_1 i) (hw _ (by rw [e]; rfl)))))
theorem kb_r29 {post : Int32 → Prop} {x1 l f0 f1 x3 x4 m : Int32} {a1 a2 : Nat → Int32} {n : Nat} (h4 : ¬ x4 < 0) (hx : vp_in x1 6) (e2 : a2 x1.toNatClampNeg = m)
    (h0 : (l >>> (x4 &&& 31)) &&& 1 = 0 → wX_rank_68 post (wX_rank_29 post x1 l f0 f1 a1 a2 n) x1 l x3 x4 ((1 : Int32) <<< (kb_bn (m &&& (((1 : Int32) <<< (x4 &&& 31)) - 1)) 6 &&& 31)) 0 f0 f1 a1 a2)
    (h1 : ¬ (l >>> (x4 &&& 31)) &&& 1 = 0 → wX_rank_68 post (wX_rank_29 post x1 l f0 f1 a1 a2 n) x1 l x3 x4 ((1 : Int32) <<< (kb_bn (m &&& (((1 : Int32) <<< (x4 &&& 31)) - 1)) 6 &&& 31)) 1 f0 f1 a1 a2) :
    wX_rank_29 post x1 l f0 f1 a1 a2 (n + 1) x3 x4 := by
  subst e2
  exact br_f h4 ⟨hx, kb_bits (nm_e ⟨h0, h1⟩)⟩
theorem kb_rank29 (v m l : Int32) : ∀ k : Nat, k ≤ 6 → ∀ x3 : Int32, ∃ r : Int32, ∀ (post : Int32 → Prop) (x1 f0 f1 : Int32) (a1 a2 : Nat → Int32), vp_in x1 6 → a1 x1.toNatClampNeg = v → a2 x1.toNatClampNeg = m → post r → wX_rank_29 post x1 l f0 f1 a1 a2 (k + 1) x3 (nI k + (-1)) := by
  intro k
  induction k with
  | zero =>
    intro _ x3
    exact ⟨x3 + 1, fun post x1 f0 f1 a1 a2 _ _ _ h => br_t (by decide) h⟩
  | succ k ih =>
    intro hk x3
    have ih := ih (by omega)
    have hp : ¬ nI k < 0 := nI_pos (by omega)
    rw [pk_m1]
    by_cases hl : (l >>> (nI k &&& 31)) &&& 1 = 0
    · by_cases hm : (m >>> (nI k &&& 31)) &&& 1 = 0
      · by_cases hv : (v >>> (nI k &&& 31)) &&& 1 = 0
        · obtain ⟨r, hr⟩ := ih x3
          refine ⟨r, fun post x1 f0 f1 a1 a2 hx e1 e2 h => ?_⟩
          have e := hr post x1 f0 f1 a1 a2 hx e1 e2 h
          refine kb_r29 hp hx e2 (fun _ => ?_) (fun z => absurd hl z)
          exact ⟨hx, br_t (by rw [e2]; exact hm) ⟨hx, br_t rfl (br_t (by rw [e1]; exact hv) (nm_e e))⟩⟩
        · refine ⟨x3, fun post x1 f0 f1 a1 a2 hx e1 e2 h => ?_⟩
          refine kb_r29 hp hx e2 (fun _ => ?_) (fun z => absurd hl z)
          exact ⟨hx, br_t (by rw [e2]; exact hm) ⟨hx, br_t rfl (br_f (by rw [e1]; exact hv) (br_t rfl h))⟩⟩
      · obtain ⟨r, hr⟩ := ih (x3 + 0)
        refine ⟨r, fun post x1 f0 f1 a1 a2 hx e1 e2 h => ?_⟩
        have e := hr post x1 f0 f1 a1 a2 hx e1 e2 h
        refine kb_r29 hp hx e2 (fun _ => ?_) (fun z => absurd hl z)
        exact ⟨hx, br_f (by rw [e2]; exact hm) (br_t rfl (nm_e (nm_e e)))⟩
    · by_cases hm : (m >>> (nI k &&& 31)) &&& 1 = 0
      · by_cases hv : (v >>> (nI k &&& 31)) &&& 1 = 1
        · obtain ⟨r, hr⟩ := ih x3
          refine ⟨r, fun post x1 f0 f1 a1 a2 hx e1 e2 h => ?_⟩
          have e := hr post x1 f0 f1 a1 a2 hx e1 e2 h
          refine kb_r29 hp hx e2 (fun z => absurd z hl) (fun _ => ?_)
          exact ⟨hx, br_t (by rw [e2]; exact hm) ⟨hx, br_f kb_10 (br_t (by rw [e1]; exact hv) (nm_e e))⟩⟩
        · refine ⟨x3 + ((1 : Int32) <<< (kb_bn (m &&& (((1 : Int32) <<< (nI k &&& 31)) - 1)) 6 &&& 31)), fun post x1 f0 f1 a1 a2 hx e1 e2 h => ?_⟩
          refine kb_r29 hp hx e2 (fun z => absurd z hl) (fun _ => ?_)
          exact ⟨hx, br_t (by rw [e2]; exact hm) ⟨hx, br_f kb_10 (br_f (by rw [e1]; exact hv) (br_f kb_10 h))⟩⟩
      · obtain ⟨r, hr⟩ := ih (x3 + ((1 : Int32) <<< (kb_bn (m &&& (((1 : Int32) <<< (nI k &&& 31)) - 1)) 6 &&& 31)))
        refine ⟨r, fun post x1 f0 f1 a1 a2 hx e1 e2 h => ?_⟩
        have e := hr post x1 f0 f1 a1 a2 hx e1 e2 h
        refine kb_r29 hp hx e2 (fun z => absurd z hl) (fun _ => ?_)
        exact ⟨hx, br_f (by rw [e2]; exact hm) (br_f kb_10 (nm_e (nm_e e)))⟩
theorem kb_count (v m : Int32) : ∃ r : Int32, ∀ (post : Int32 → Prop) (x1 f0 f1 : Int32) (a1 a2 : Nat → Int32) (k : Nat), k < 6 → x1 = nI k → a1 k = v → a2 k = m → post r → wpX_count post (f0, f1, a1, a2) x1 0 63 := by
  obtain ⟨r, hr⟩ := kb_rank29 v m 63 6 (by omega) 0
  rw [pk_m1] at hr
  refine ⟨r, fun post x1 f0 f1 a1 a2 k hk hp e1 e2 h => ?_⟩
  have hc : x1.toNatClampNeg = k := pk_cl k hp
  unfold wpX_count
  dsimp only
  refine kb_reg k hk (br_f kb_10 (br_t (by decide) ?_)) hp
  unfold wpX_rank
  dsimp only
  refine br_t (by decide) (br_t (by decide) ⟨7, ?_⟩)
  exact hr _ x1 f0 f1 a1 a2 (pk_in k 6 hk hp) (by rw [hc]; exact e1) (by rw [hc]; exact e2) (br_f (by decide) h)
/-! suppose -/
theorem kb_sup33 {post : Int32 → St2 → Prop} {f0 f1 : Int32} {a1 a2 : Nat → Int32} (h : post (-1) (f0, f1, a1, a2)) : wpX_suppose post (f0, f1, a1, a2) 3 0 3 := by
  unfold wpX_suppose
  dsimp only
  refine kb_reg 3 (by omega) (br_f kb_10 ?_)
  refine kb_reg 3 (by omega) (br_f kb_10 ?_)
  exact br_f (by decide) (br_f (by decide) (br_t rfl h))
theorem kb_sup35 {post : Int32 → St2 → Prop} {f0 f1 v w m n : Int32} {a1 a2 : Nat → Int32} (e13 : a1 3 = v) (e15 : a1 5 = w) (e23 : a2 3 = m) (e25 : a2 5 = n)
    (h : (v ^^^ w) &&& ((m ||| n) ^^^ (-1)) = 0 → ∀ b1 b2 : Nat → Int32, b1 3 = v ||| w → b1 5 = v ||| w → b2 3 = m &&& n → b2 5 = m &&& n → post 0 (v ||| w, m &&& n, b1, b2))
    (g : ¬ (v ^^^ w) &&& ((m ||| n) ^^^ (-1)) = 0 → post (-2) (f0, f1, a1, a2)) : wpX_suppose post (f0, f1, a1, a2) 3 0 5 := by
  unfold wpX_suppose
  dsimp only
  rw [kb_c3, kb_c5]
  refine kb_reg 3 (by omega) (br_f kb_10 ?_)
  refine kb_reg 5 (by omega) (br_f kb_10 ?_)
  refine br_f (by decide) (br_f (by decide) (br_f (by decide) (br_t rfl ?_)))
  refine kb_comb6 3 (by omega) e13 e15 e23 e25 (fun c => ?_) (fun c => ?_)
  · refine br_t rfl ⟨kb_i3, kb_i5, nm_e ⟨kb_i3, kb_i5, nm_e ?_⟩⟩
    dsimp only
    exact h c _ _ ((pk_un (by omega)).trans pk_us) (pk_us.trans pk_us) ((pk_un (by omega)).trans pk_us) (pk_us.trans pk_us)
  · exact br_f (by decide) (g c)
end
section
/-! the law, from its end -/
/-- the law's flag 'apart' -/
def kb_A (v w m n x : Int32) : Prop := ((v ^^^ w) &&& ((m ||| n) ^^^ (-1)) = 0 ∧ x = 0) ∨ (¬ (v ^^^ w) &&& ((m ||| n) ^^^ (-1)) = 0 ∧ x = 1)
theorem kb_470a {post : Int32 → St0 → Prop} {mc ms kc ks : Nat} {f0 f1 v w m n : Int32} {a1 a2 : Nat → Int32} (hp : post 1 ()) (e13 : a1 3 = v) (e15 : a1 5 = w) (e23 : a2 3 = m) : wL_lawOf_470 post mc ms m n v w 1 (-2) (-2) kc ks f0 f1 a1 a2 := by
  unfold wL_lawOf_470
  refine br_t rfl (br_f kb_10 ?_)
  refine kb_value 3 (by omega) (br_t e13 ?_)
  refine kb_mask 3 (by omega) (br_t e23 ?_)
  exact kb_value 5 (by omega) (br_t e15 hp)
theorem kb_470n {post : Int32 → St0 → Prop} {mc ms kc ks : Nat} {f0 f1 v w m n : Int32} {a1 a2 : Nat → Int32} (hp : post 1 ()) (hv : kb_S v) (hw : kb_S w) (hm : kb_S m) (e13 : a1 3 = v ||| w) (e15 : a1 5 = v ||| w) (e23 : a2 3 = m &&& n) (e25 : a2 5 = m &&& n) : wL_lawOf_470 post mc ms m n v w 0 0 0 kc ks f0 f1 a1 a2 := by
  obtain ⟨r, hr⟩ := kb_count (v ||| w) (m &&& n)
  unfold wL_lawOf_470
  refine br_t rfl (br_t rfl ?_)
  refine kb_value 3 (by omega) (br_t e13 ?_)
  refine kb_mask 3 (by omega) (br_t e23 ?_)
  refine kb_value 5 (by omega) (br_t e15 ?_)
  refine kb_mask 5 (by omega) (br_t e25 ?_)
  refine hr _ 3 f0 f1 a1 a2 3 (by omega) rfl e13 e23 ?_
  refine hr _ 5 f0 f1 a1 a2 5 (by omega) rfl e15 e25 ?_
  refine br_t rfl ?_
  refine kb_least e13 e23 (kb_S_or hv hw) (kb_S_l _ hm) (br_t rfl ?_)
  exact kb_sup33 (br_t rfl hp)
theorem kb_446 {post : Int32 → St0 → Prop} {mc ms kc ks : Nat} {f0 f1 v w m n x z : Int32} {a1 a2 : Nat → Int32} (hp : post 1 ()) (hA : kb_A v w m n x) (hv : kb_S v) (hw : kb_S w) (hm : kb_S m) (e13 : a1 3 = v) (e15 : a1 5 = w) (e23 : a2 3 = m) (e25 : a2 5 = n) : wL_lawOf_446 post mc ms m n v w x z z kc ks f0 f1 a1 a2 := by
  unfold wL_lawOf_446
  refine br_t rfl (kb_sup35 e13 e15 e23 e25 (fun c b1 b2 h13 h15 h23 h25 => ?_) (fun c => ?_))
  · rcases hA with ⟨_, rfl⟩ | ⟨d, _⟩
    · exact br_t rfl (kb_470n hp hv hw hm h13 h15 h23 h25)
    · exact absurd c d
  · rcases hA with ⟨d, _⟩ | ⟨_, rfl⟩
    · exact absurd d c
    · exact br_f kb_10 (kb_470a hp e13 e15 e23)
theorem kb_400 {post : Int32 → St0 → Prop} {mc ms kc ks : Nat} {f0 f1 v w m n x z : Int32} {a1 a2 : Nat → Int32} (hp : post 1 ()) (hA : kb_A v w m n x) (hv : kb_S v) (hw : kb_S w) (hm : kb_S m) (e13 : a1 3 = v) (e15 : a1 5 = w) (e23 : a2 3 = m) (e25 : a2 5 = n) : wL_lawOf_400 post mc ms m n v w x z z kc ks f0 f1 a1 a2 := by
  unfold wL_lawOf_400
  refine br_t rfl (kb_cmp315 e13 e15 e23 e25 (fun c d => ?_) (fun c d => ?_) (fun c => ?_))
  · exact br_t c (br_t d (kb_446 hp hA hv hw hm e13 e15 e23 e25))
  · exact br_t c (br_f d (kb_446 hp hA hv hw hm e13 e15 e23 e25))
  · exact br_f c (kb_446 hp hA hv hw hm e13 e15 e23 e25)
theorem kb_367 {post : Int32 → St0 → Prop} {mc ms kc ks : Nat} {f0 f1 v w m n x z : Int32} {a1 a2 : Nat → Int32} (hp : post 1 ()) (hA : kb_A v w m n x) (hv : kb_S v) (hw : kb_S w) (hm : kb_S m) (e13 : a1 3 = v) (e15 : a1 5 = w) (e23 : a2 3 = m) (e25 : a2 5 = n) : wL_lawOf_367 post mc ms m n v w x z z kc ks f0 f1 a1 a2 := by
  have K : ∀ y : Int32, wL_lawOf_400 post mc ms m n v w x y y kc ks f0 f1 a1 a2 := fun y => kb_400 hp hA hv hw hm e13 e15 e23 e25
  unfold wL_lawOf_367
  refine br_t rfl (kb_cmp533 e13 e15 e23 e25 (fun c => ?_) (fun c d => ?_) (fun c d => ?_))
  · rcases hA with ⟨g, _⟩ | ⟨_, rfl⟩
    · exact absurd g c
    · exact br_f kb_10 (K 1)
  · rcases hA with ⟨_, rfl⟩ | ⟨g, _⟩
    · exact br_t rfl (br_t d (K 0))
    · exact absurd c g
  · rcases hA with ⟨_, rfl⟩ | ⟨g, _⟩
    · exact br_t rfl (br_f d (K 2))
    · exact absurd c g
theorem kb_332 {post : Int32 → St0 → Prop} {mc ms kc ks : Nat} {f0 f1 v w m n x z y : Int32} {a1 a2 : Nat → Int32} (hp : post 1 ()) (hA : kb_A v w m n x) (hv : kb_S v) (hw : kb_S w) (hm : kb_S m) (e13 : a1 3 = v) (e15 : a1 5 = w) (e23 : a2 3 = m) (e25 : a2 5 = n) (hz : y = z) : wL_lawOf_332 post mc ms m n v w x z y kc ks f0 f1 a1 a2 := by
  have K : ∀ t : Int32, wL_lawOf_367 post mc ms m n v w x t t kc ks f0 f1 a1 a2 := fun t => kb_367 hp hA hv hw hm e13 e15 e23 e25
  unfold wL_lawOf_332
  refine br_t hz (kb_cmp305 e13 e15 e23 e25 (fun c => ?_) (fun c d => ?_) (fun c d => ?_))
  · rcases hA with ⟨g, _⟩ | ⟨_, rfl⟩
    · exact absurd g c
    · exact br_f kb_10 (K 0)
  · rcases hA with ⟨_, rfl⟩ | ⟨g, _⟩
    · exact br_t rfl (br_t d (K 1))
    · exact absurd c g
  · rcases hA with ⟨_, rfl⟩ | ⟨g, _⟩
    · exact br_t rfl (br_f d (K 2))
    · exact absurd c g
theorem kb_288z {post : Int32 → St0 → Prop} {mc ms kc ks : Nat} {f0 f1 v w m n x k z : Int32} {a1 a2 : Nat → Int32} (hp : post 1 ()) (hA : kb_A v w m n x) (hv : kb_S v) (hw : kb_S w) (hm : kb_S m) (e13 : a1 3 = v) (e15 : a1 5 = w) (e23 : a2 3 = m) (e25 : a2 5 = n) (e10 : a1 0 = z &&& (k ^^^ (-1))) (e20 : a2 0 = k) : wL_lawOf_288 post mc ms m n v w x 0 k z kc ks f0 f1 a1 a2 := by
  unfold wL_lawOf_288
  refine nm_e (kb_value 0 (by omega) (br_t rfl ?_))
  unfold wL_lawOf_312
  exact br_t e10 (kb_mask 0 (by omega) (br_t rfl (kb_332 hp hA hv hw hm e13 e15 e23 e25 e20)))
theorem kb_288y {post : Int32 → St0 → Prop} {mc ms kc ks : Nat} {f0 f1 v w m n x k z : Int32} {a1 a2 : Nat → Int32} (hp : post 1 ()) (hA : kb_A v w m n x) (hv : kb_S v) (hw : kb_S w) (hm : kb_S m) (e13 : a1 3 = v) (e15 : a1 5 = w) (e23 : a2 3 = m) (e25 : a2 5 = n) (e10 : a1 0 = 0) (e20 : a2 0 = 0) : wL_lawOf_288 post mc ms m n v w x (-2) k z kc ks f0 f1 a1 a2 := by
  unfold wL_lawOf_288
  refine nm_e (kb_value 0 (by omega) (br_f (by decide) ?_))
  unfold wL_lawOf_312
  exact br_t e10 (kb_mask 0 (by omega) (br_f (by decide) (kb_332 hp hA hv hw hm e13 e15 e23 e25 e20)))
/-- a place other than 0 keeps what it holds -/
theorem kb_un {a : Nat → Int32} {x y : Int32} {j : Nat} (h : a j = y) (hj : j ≠ 0) : upd a 0 x j = y := (pk_un hj).trans h
theorem kb_94 {post : Int32 → St0 → Prop} {mc ms kc ks : Nat} {f0 f1 p q v w m n x y : Int32} {a1 a2 : Nat → Int32} (k : Nat) (hk : k < 5) (hy : y = nI (2 + k)) (hp : post 1 ()) (hA : kb_A v w m n x) (hv : kb_S v) (hw : kb_S w) (hm : kb_S m) (ev : v = p &&& (m ^^^ (-1))) (ew : w = q &&& (n ^^^ (-1))) (e13 : a1 3 = v) (e15 : a1 5 = w) (e23 : a2 3 = m) (e25 : a2 5 = n) (e10 : a1 0 = 0) (e20 : a2 0 = 0) : wL_lawOf_94 post mc ms m n v w y x kc ks f0 f1 a1 a2 := by
  have hk' : k = 0 ∨ k = 1 ∨ k = 2 ∨ k = 3 ∨ k = 4 := by omega
  rcases hk' with rfl | rfl | rfl | rfl | rfl
  · have hy' : y = 2 := hy
    subst hy'
    unfold wL_lawOf_94 wL_lawOf_113 wL_lawOf_114
    refine br_f (by decide) (kb_comb2 (fun v' w' m' n' g13 g15 g23 g25 => ?_))
    obtain rfl : v = v' := e13.symm.trans g13
    obtain rfl : w = w' := e15.symm.trans g15
    obtain rfl : m = m' := e23.symm.trans g23
    obtain rfl : n = n' := e25.symm.trans g25
    refine br_t rfl (kb_value 3 (by omega) (br_t (kb_un e13 (by omega)) (kb_mask 5 (by omega) (br_t (kb_un e25 (by omega)) (br_t rfl ?_)))))
    unfold wL_lawOf_174 wL_lawOf_259
    refine br_t rfl (br_f (by decide) (br_f (by decide) ?_))
    exact kb_288z hp hA hv hw hm (kb_un e13 (by omega)) (kb_un e15 (by omega)) (kb_un e23 (by omega)) (kb_un e25 (by omega)) (pk_us.trans (kb_clr _ _).symm) pk_us
  · have hy' : y = 3 := hy
    subst hy'
    unfold wL_lawOf_94 wL_lawOf_113 wL_lawOf_114
    refine br_f (by decide) (kb_comb3 (fun v' w' m' n' g13 g15 g23 g25 => ?_))
    obtain rfl : v = v' := e13.symm.trans g13
    obtain rfl : w = w' := e15.symm.trans g15
    obtain rfl : m = m' := e23.symm.trans g23
    obtain rfl : n = n' := e25.symm.trans g25
    refine br_t rfl (kb_value 3 (by omega) (br_t (kb_un e13 (by omega)) (kb_mask 5 (by omega) (br_t (kb_un e25 (by omega)) (br_f (by decide) ?_)))))
    unfold wL_lawOf_174 wL_lawOf_259
    refine br_f (by decide) (br_t rfl (br_f (by decide) (br_f (by decide) ?_)))
    exact kb_288z hp hA hv hw hm (kb_un e13 (by omega)) (kb_un e15 (by omega)) (kb_un e23 (by omega)) (kb_un e25 (by omega)) (pk_us.trans (kb_clr _ _).symm) pk_us
  · have hy' : y = 4 := hy
    subst hy'
    unfold wL_lawOf_94 wL_lawOf_113 wL_lawOf_114
    refine br_f (by decide) (kb_comb4 (fun v' w' m' n' g13 g15 g23 g25 => ?_))
    obtain rfl : v = v' := e13.symm.trans g13
    obtain rfl : w = w' := e15.symm.trans g15
    obtain rfl : m = m' := e23.symm.trans g23
    obtain rfl : n = n' := e25.symm.trans g25
    refine br_t rfl (kb_value 3 (by omega) (br_t (kb_un e13 (by omega)) (kb_mask 5 (by omega) (br_t (kb_un e25 (by omega)) (br_f (by decide) ?_)))))
    unfold wL_lawOf_174 wL_lawOf_259
    refine br_f (by decide) (br_f (by decide) (br_t rfl (br_t rfl ?_)))
    exact kb_288z hp hA hv hw hm (kb_un e13 (by omega)) (kb_un e15 (by omega)) (kb_un e23 (by omega)) (kb_un e25 (by omega)) pk_us pk_us
  · have hy' : y = 5 := hy
    subst hy'
    unfold wL_lawOf_94 wL_lawOf_113 wL_lawOf_114
    refine br_f (by decide) (kb_comb5 (fun v' w' m' n' g13 g15 g23 g25 => ?_))
    obtain rfl : v = v' := e13.symm.trans g13
    obtain rfl : w = w' := e15.symm.trans g15
    obtain rfl : m = m' := e23.symm.trans g23
    obtain rfl : n = n' := e25.symm.trans g25
    refine br_t rfl (kb_value 3 (by omega) (br_t (kb_un e13 (by omega)) (kb_mask 5 (by omega) (br_t (kb_un e25 (by omega)) (br_f (by decide) ?_)))))
    unfold wL_lawOf_174 wL_lawOf_259
    refine br_f (by decide) (br_f (by decide) (br_f (by decide) (br_t rfl (br_f (by decide) (br_t rfl ?_)))))
    exact kb_288z hp hA hv hw hm (kb_un e13 (by omega)) (kb_un e15 (by omega)) (kb_un e23 (by omega)) (kb_un e25 (by omega)) pk_us pk_us
  · have hy' : y = 6 := hy
    subst hy'
    have hA' := hA
    unfold wL_lawOf_94 wL_lawOf_113 wL_lawOf_114
    rcases hA' with ⟨c, rfl⟩ | ⟨c, rfl⟩
    · refine br_t rfl (br_t rfl (kb_comb6 0 (by omega) e13 e15 e23 e25 (fun _ => ?_) (fun d => absurd c d)))
      refine br_t rfl (kb_value 3 (by omega) (br_t (kb_un e13 (by omega)) (kb_mask 5 (by omega) (br_t (kb_un e25 (by omega)) (br_f (by decide) ?_)))))
      unfold wL_lawOf_174 wL_lawOf_259
      refine br_f (by decide) (br_f (by decide) (br_f (by decide) (br_f (by decide) (br_f (by decide) (br_f (by decide) ?_)))))
      have e6 : (v ||| w) &&& ((m &&& n) ^^^ (-1)) = v ||| w := by rw [ev, ew]; exact kb_k6 p q m n
      exact kb_288z hp hA hv hw hm (kb_un e13 (by omega)) (kb_un e15 (by omega)) (kb_un e23 (by omega)) (kb_un e25 (by omega)) (pk_us.trans e6.symm) pk_us
    · refine br_t rfl (br_f kb_10 (kb_comb6 0 (by omega) e13 e15 e23 e25 (fun d => absurd d c) (fun _ => ?_)))
      refine br_t rfl (kb_value 3 (by omega) (br_t e13 (kb_mask 5 (by omega) (br_t e25 (br_f (by decide) ?_)))))
      unfold wL_lawOf_174 wL_lawOf_259
      refine br_f (by decide) (br_f (by decide) (br_f (by decide) (br_f (by decide) (br_f (by decide) (br_f (by decide) ?_)))))
      exact kb_288y hp hA hv hw hm e13 e15 e23 e25 e10 e20
theorem kb_kind (x : Int32) : ∃ k : Nat, k < 5 ∧ 2 + ((x &&& 255) - (x &&& 255) / 5 * 5) = nI (2 + k) := by
  obtain ⟨j, hj, e⟩ := pk_andE x (m := 255) 8 (by decide)
  refine ⟨j % 5, by omega, ?_⟩
  rw [e]
  show nI 2 + (nI j - nI j / nI 5 * nI 5) = nI (2 + j % 5)
  rw [pk_rem (by omega) (by omega) (by omega), nI_add]
theorem kb_lawOf {post : Int32 → St0 → Prop} (hp : post 1 ()) (p0 p1 p2 p3 p4 : Int32) : wpL_lawOf post 3 16 () p0 p1 p2 p3 p4 := by
  obtain ⟨k, hk, ek⟩ := kb_kind p4
  unfold wpL_lawOf
  refine ⟨by omega, by omega, 2, 12, by omega, by omega, ?_⟩
  unfold wpX_init
  dsimp only
  refine ⟨by omega, by omega, by omega, by omega, ?_⟩
  refine nm_e (nm_e (nm_e (nm_e ⟨by decide, nm_r ek ?_⟩)))
  refine kb_set 3 (by omega) (kb_set 5 (by omega) ?_)
  rw [kb_set_eq p0 p1, kb_set_eq p2 p3]
  have K : ∀ x : Int32, kb_A ((p0 &&& 63) &&& ((p1 &&& 63) ^^^ (-1))) ((p2 &&& 63) &&& ((p3 &&& 63) ^^^ (-1))) (p1 &&& 63) (p3 &&& 63) x → wL_lawOf_94 post 3 16 (p1 &&& 63) (p3 &&& 63) ((p0 &&& 63) &&& ((p1 &&& 63) ^^^ (-1))) ((p2 &&& 63) &&& ((p3 &&& 63) ^^^ (-1))) (nI (2 + k)) x (1 + 2) (4 + 12) 0 0 (upd (upd (fun _ => 0) 3 ((p0 &&& 63) &&& ((p1 &&& 63) ^^^ (-1)))) 5 ((p2 &&& 63) &&& ((p3 &&& 63) ^^^ (-1)))) (upd (upd (fun _ => 0) 3 (p1 &&& 63)) 5 (p3 &&& 63)) := fun x hx =>
    kb_94 k hk rfl hp hx (kb_S_l _ (kb_S_and p0)) (kb_S_l _ (kb_S_and p2)) (kb_S_and p1) rfl rfl ((pk_un (by omega)).trans pk_us) pk_us ((pk_un (by omega)).trans pk_us) pk_us ((pk_un (by omega)).trans (pk_un (by omega))) ((pk_un (by omega)).trans (pk_un (by omega)))
  exact br_c (fun c => K 0 (Or.inl ⟨c, rfl⟩)) (fun c => K 1 (Or.inr ⟨c, rfl⟩))
theorem kb_cell {post : Int32 → Prop} {L : Nat} {xs : Nat → Int32} {p : Int32} (k : Nat) (hk : k < 5) (hL : L ≤ 5) (h : ∀ x : Int32, post x) (hp : p = nI k := by rfl) : wpL_cellAt post L xs () p :=
  pk_le L k (fun _ => h 0) (fun z => ⟨pk_in k L z hp, h _⟩) rfl hp
theorem i_vc (xs : Nat → Int32) (L : Nat) (hL : L ≤ 5) : wpL_law (fun r => r = 1) L xs := by
  unfold wpL_law
  refine kb_cell 0 (by omega) hL (fun c0 => ?_)
  refine kb_cell 1 (by omega) hL (fun c1 => ?_)
  refine kb_cell 2 (by omega) hL (fun c2 => ?_)
  refine kb_cell 3 (by omega) hL (fun c3 => ?_)
  refine kb_cell 4 (by omega) hL (fun c4 => ?_)
  exact ⟨3, 16, by omega, by omega, kb_lawOf rfl c0 c1 c2 c3 c4⟩
end
