section
/-! the small pure facts: ranges, bits, one step of a sum or of a mask -/
theorem ph_isD {post : Int32 → Prop} {k : Nat} (hk : k < 6) (h : post 1) : wpX_isDocument post () (nI k) :=
  br_f (nI_pos (by omega)) (br_f (nI_ge (b := 6) hk (by decide)) h)
theorem ph_noD {post : Int32 → Prop} {d : Int32} (hd : d < 0 ∨ 6 ≤ d) (h : post 0) : wpX_isDocument post () d := by
  unfold wpX_isDocument
  by_cases g : d < 0
  · exact br_t g h
  · exact br_f g (br_t (hd.resolve_left g) h)
theorem ph_isW {post : Int32 → Prop} {k : Nat} (hk : k < 12) (h : post 1) : wpX_isWord post () (nI k) :=
  br_f (nI_pos (by omega)) (br_f (nI_ge (b := 12) hk (by decide)) h)
theorem ph_noW {post : Int32 → Prop} {w : Int32} (hw : w < 0 ∨ 12 ≤ w) (h : post 0) : wpX_isWord post () w := by
  unfold wpX_isWord
  by_cases g : w < 0
  · exact br_t g h
  · exact br_f g (br_t (hw.resolve_left g) h)
theorem ph_bit0 : ∀ i, i < 24 → ((0 : Int32) >>> (nI i &&& 31)) &&& 1 = if i = 0 then 0 else 0 := by decide +kernel
theorem ph_bit1 : ∀ i, i < 24 → ((1 : Int32) >>> (nI i &&& 31)) &&& 1 = if i = 0 then 1 else 0 := by decide +kernel
theorem ph_bit {g : Int32} (hg : g = 0 ∨ g = 1) : ∀ i, i < 24 → (g >>> (nI i &&& 31)) &&& 1 = if i = 0 then g else 0 := by
  rcases hg with rfl | rfl
  · exact ph_bit0
  · exact ph_bit1
theorem ph_b8 : ∀ m, m < 12 → (nI m).toInt8.toInt32 = nI m := by decide +kernel
theorem ph_set : (0 : Int32) ||| ((1 : Int32) <<< ((0 : Int32) &&& 31)) = 1 := by decide
theorem ph_clr : (1 : Int32) &&& (((1 : Int32) <<< ((0 : Int32) &&& 31)) ^^^ (-1)) = 0 := by decide
theorem ph_inc : ((0 : Int32) + 1).toInt8.toInt32 = 1 := by decide
theorem ph_12 (i v : Nat) : nI i * 12 + nI v = nI (i * 12 + v) := by
  rw [show (12 : Int32) = nI 12 from rfl, pk_mul, nI_add]
theorem ph_24 (i : Nat) : nI i * 24 + 0 = nI (i * 24) := by
  rw [show (24 : Int32) = nI 24 from rfl, pk_mul, Int32.add_zero]
/-- one turn of the ones loop -/
theorem ph_st1 {s g : Int32} {i : Nat} (hs : s = if i = 0 then 0 else g) : s + (if i = 0 then g else 0) = if i + 1 = 0 then 0 else g := by
  rw [hs, if_neg (Nat.succ_ne_zero i)]
  by_cases e : i = 0
  · rw [if_pos e, if_pos e, Int32.zero_add]
  · rw [if_neg e, if_neg e, Int32.add_zero]
/-- one turn of the frequency loop -/
theorem ph_stA {s g : Int32} {d i : Nat} (hs : s = if d < i then g else 0) : s + (if i = d then g else 0) = if d < i + 1 then g else 0 := by
  rw [hs]
  by_cases e : i = d
  · rw [if_neg (by omega), if_pos e, if_pos (by omega), Int32.zero_add]
  · rw [if_neg e, Int32.add_zero]
    by_cases l : d < i
    · rw [if_pos l, if_pos (by omega)]
    · rw [if_neg l, if_neg (by omega)]
/-- one turn of the having loop: nothing there, something there -/
theorem ph_st0 {s M : Int32} {d i : Nat} (hs : s = if d < i then M else 0) (hM : i = d → M = 0) : s ||| 0 = if d < i + 1 then M else 0 := by
  rw [hs, Int32.or_zero]
  by_cases e : i = d
  · rw [if_neg (by omega), if_pos (by omega), hM e]
  · by_cases l : d < i
    · rw [if_pos l, if_pos (by omega)]
    · rw [if_neg l, if_neg (by omega)]
theorem ph_stM {s M m : Int32} {d i : Nat} (hs : s = if d < i then M else 0) (e : i = d) (hm : M = m) : s ||| m = if d < i + 1 then M else 0 := by
  rw [hs, if_neg (by omega), if_pos (by omega), hm, Int32.zero_or]
/-- the places kept: word u stands in document k alone, once, at place 0 -/
def ph_P (a : Nat → Int32) (k u : Nat) : Prop := ∀ i j, i < 6 → j < 12 → a (i * 12 + j) = if i = k ∧ j = u then 1 else 0
theorem ph_P1 {k u : Nat} (hk : k < 6) (hu : u < 12) : ph_P (upd (fun _ => 0) (k * 12 + u) 1) k u := by
  intro i j hi hj
  by_cases e : i = k ∧ j = u
  · rw [if_pos e, e.1, e.2, pk_us]
  · rw [if_neg e, pk_un (by omega)]
theorem ph_P2 {k m u : Nat} (hk : k < 6) (hm : m < 12) (hu : u < 12) : ph_P (upd (upd (upd (fun _ => 0) (k * 12 + m) 1) (k * 12 + m) 0) (k * 12 + u) 1) k u := by
  intro i j hi hj
  by_cases e : i = k ∧ j = u
  · rw [if_pos e, e.1, e.2, pk_us]
  · rw [if_neg e, pk_un (by omega)]
    by_cases e2 : i * 12 + j = k * 12 + m
    · rw [e2, pk_us]
    · rw [pk_un e2, pk_un e2]
end
section
/-! a lemma a method -/
theorem ph_ones {post : Int32 → Prop} {g : Int32} (hg : g = 0 ∨ g = 1) (h : post g) : wpX_ones post () g := by
  unfold wpX_ones
  exact pk_loop (fun n i s => wX_ones_4 post g n s (nI i)) (fun i s => s = if i = 0 then 0 else g) 24 0 0 (by omega) rfl
    (fun n s hs => pk_le 24 24 (fun _ => by rw [show s = g from hs]; exact h) (fun z => absurd z (by omega)))
    (fun n i s hi hs hw => pk_le 24 i (fun z => absurd z (by omega)) (fun _ => nm_e (nm_r (nI_1 i) (hw _ (by rw [ph_bit hg i hi]; exact ph_st1 hs)))))
section
variable {f0 f1 : Int32} {a1 a2 a3 a4 a5 a6 a7 a8 a9 : Nat → Int32}
theorem ph_having {post : Int32 → Prop} {g : Int32} {d v : Nat} (hd : d < 6) (hv : v < 12) (h : ∀ i, i < 6 → a3 (i * 12 + v) = if i = d then g else 0)
    (hp : post (if g = 0 then 0 else (1 : Int32) <<< (nI d &&& 31))) : wpX_having post (f0, f1, a1, a2, a3, a4, a5, a6, a7, a8, a9) (nI v) := by
  unfold wpX_having
  refine pk_loop (fun n i s => wX_having_4 post (nI v) f0 f1 a1 a2 a3 a4 a5 a6 a7 a8 a9 n s (nI i)) (fun i s => s = if d < i then (if g = 0 then 0 else (1 : Int32) <<< (nI d &&& 31)) else 0) 6 0 0 (by omega) (if_neg (Nat.not_lt_zero d)).symm ?_ ?_
  · intro n s hs
    refine pk_le 6 6 (fun _ => ?_) (fun z => absurd z (by omega))
    rw [show s = _ from hs, if_pos hd]
    exact hp
  · intro n i s hi hs hw
    have A : a3 (nI i * 12 + nI v).toNatClampNeg = if i = d then g else 0 := by rw [ph_12, nI_clamp (by omega), h i hi]
    refine pk_le 6 i (fun z => absurd z (by omega)) (fun _ => ph_isW hv (br_f (by decide) ⟨pk_in (i * 12 + v) 72 (by omega) (ph_12 i v), ?_⟩))
    by_cases e : i = d
    · by_cases hg : g = 0
      · exact br_t (by rw [A, if_pos e, hg]) (nm_e (nm_r (nI_1 i) (hw _ (ph_st0 hs (fun _ => if_pos hg)))))
      · exact br_f (by rw [A, if_pos e]; exact hg) (nm_e (nm_r (nI_1 i) (hw _ (ph_stM hs e (by rw [if_neg hg, e])))))
    · exact br_t (by rw [A, if_neg e]) (nm_e (nm_r (nI_1 i) (hw _ (ph_st0 hs (fun z => absurd z e)))))
theorem ph_havingNo {post : Int32 → Prop} {x : Int32} (hx : x < 0 ∨ 12 ≤ x) (hp : post 0) : wpX_having post (f0, f1, a1, a2, a3, a4, a5, a6, a7, a8, a9) x := by
  unfold wpX_having
  exact ⟨0 + 1, br_f (by decide) (ph_noW hx (br_t rfl hp))⟩
theorem ph_havingZ {post : Int32 → Prop} {x : Int32} (h : ∀ j, a3 j = 0) (hp : post 0) : wpX_having post (f0, f1, a1, a2, a3, a4, a5, a6, a7, a8, a9) x := by
  rcases pk_ix x (n := 12) (by decide) with hx | hx | ⟨q, hq, rfl⟩
  · exact ph_havingNo (Or.inl hx) hp
  · exact ph_havingNo (Or.inr hx) hp
  · exact ph_having (g := 0) (d := 0) (by decide) hq (fun i _ => by rw [h]; split <;> rfl) (by rw [if_pos rfl]; exact hp)
theorem ph_havingP {post : Int32 → Prop} {x : Int32} {k u : Nat} (hk : k < 6) (hu : u < 12) (h : ph_P a3 k u) (hp : post (if nI u = x then (1 : Int32) <<< (nI k &&& 31) else 0)) :
    wpX_having post (f0, f1, a1, a2, a3, a4, a5, a6, a7, a8, a9) x := by
  rcases pk_ix x (n := 12) (by decide) with hx | hx | ⟨q, hq, rfl⟩
  · rw [if_neg (fun z => nI_pos (n := u) (by omega) (by rw [z]; exact hx))] at hp
    exact ph_havingNo (Or.inl hx) hp
  · rw [if_neg (fun z => nI_ge (a := u) (b := 12) hu (by decide) (by rw [z]; exact hx))] at hp
    exact ph_havingNo (Or.inr hx) hp
  · by_cases e : q = u
    · rw [e, if_pos rfl] at hp
      exact ph_having (g := 1) (d := k) hk hq (fun i hi => by
        rw [h i q hi hq]
        by_cases ei : i = k
        · rw [if_pos ⟨ei, e⟩, if_pos ei]
        · rw [if_neg (fun z => ei z.1), if_neg ei]) (by rw [if_neg (by decide)]; exact hp)
    · rw [if_neg (fun z => e ((nI_eq (by omega) (by omega)).mp z).symm)] at hp
      exact ph_having (g := 0) (d := k) hk hq (fun i hi => by
        rw [h i q hi hq, if_neg (fun z => e z.2)]
        split <;> rfl) (by rw [if_pos rfl]; exact hp)
theorem ph_freq {post : Int32 → Prop} {g : Int32} {d v : Nat} (hg : g = 0 ∨ g = 1) (hd : d < 6) (hv : v < 12) (h : ∀ i, i < 6 → a3 (i * 12 + v) = if i = d then g else 0)
    (hp : post g) : wpX_frequency post (f0, f1, a1, a2, a3, a4, a5, a6, a7, a8, a9) (nI v) := by
  unfold wpX_frequency
  refine pk_loop (fun n i s => wX_frequency_4 post (nI v) f0 f1 a1 a2 a3 a4 a5 a6 a7 a8 a9 n s (nI i)) (fun i s => s = if d < i then g else 0) 6 0 0 (by omega) (if_neg (Nat.not_lt_zero d)).symm ?_ ?_
  · intro n s hs
    refine pk_le 6 6 (fun _ => ?_) (fun z => absurd z (by omega))
    rw [show s = _ from hs, if_pos hd]
    exact hp
  · intro n i s hi hs hw
    have A : a3 (nI i * 12 + nI v).toNatClampNeg = if i = d then g else 0 := by rw [ph_12, nI_clamp (by omega), h i hi]
    have B : a3 (nI i * 12 + nI v).toNatClampNeg = 0 ∨ a3 (nI i * 12 + nI v).toNatClampNeg = 1 := by
      rw [A]
      by_cases e : i = d
      · rw [if_pos e]
        exact hg
      · rw [if_neg e]
        exact Or.inl rfl
    exact pk_le 6 i (fun z => absurd z (by omega)) (fun _ => ph_isW hv (br_f (by decide) ⟨pk_in (i * 12 + v) 72 (by omega) (ph_12 i v), ph_ones B (nm_e (nm_r (nI_1 i) (hw _ (by rw [A]; exact ph_stA hs))))⟩))
theorem ph_freqNo {post : Int32 → Prop} {x : Int32} (hx : x < 0 ∨ 12 ≤ x) (hp : post 0) : wpX_frequency post (f0, f1, a1, a2, a3, a4, a5, a6, a7, a8, a9) x := by
  unfold wpX_frequency
  exact ⟨0 + 1, br_f (by decide) (ph_noW hx (br_t rfl hp))⟩
theorem ph_freqZ {post : Int32 → Prop} {x : Int32} (h : ∀ j, a3 j = 0) (hp : post 0) : wpX_frequency post (f0, f1, a1, a2, a3, a4, a5, a6, a7, a8, a9) x := by
  rcases pk_ix x (n := 12) (by decide) with hx | hx | ⟨q, hq, rfl⟩
  · exact ph_freqNo (Or.inl hx) hp
  · exact ph_freqNo (Or.inr hx) hp
  · exact ph_freq (g := 0) (d := 0) (Or.inl rfl) (by decide) hq (fun i _ => by rw [h]; split <;> rfl) hp
theorem ph_freqP {post : Int32 → Prop} {x : Int32} {k u : Nat} (hk : k < 6) (hu : u < 12) (h : ph_P a3 k u) (hp : post (if nI u = x then 1 else 0)) :
    wpX_frequency post (f0, f1, a1, a2, a3, a4, a5, a6, a7, a8, a9) x := by
  rcases pk_ix x (n := 12) (by decide) with hx | hx | ⟨q, hq, rfl⟩
  · rw [if_neg (fun z => nI_pos (n := u) (by omega) (by rw [z]; exact hx))] at hp
    exact ph_freqNo (Or.inl hx) hp
  · rw [if_neg (fun z => nI_ge (a := u) (b := 12) hu (by decide) (by rw [z]; exact hx))] at hp
    exact ph_freqNo (Or.inr hx) hp
  · by_cases e : q = u
    · rw [e, if_pos rfl] at hp
      exact ph_freq (g := 1) (d := k) (Or.inr rfl) hk hq (fun i hi => by
        rw [h i q hi hq]
        by_cases ei : i = k
        · rw [if_pos ⟨ei, e⟩, if_pos ei]
        · rw [if_neg (fun z => ei z.1), if_neg ei]) hp
    · rw [if_neg (fun z => e ((nI_eq (by omega) (by omega)).mp z).symm)] at hp
      exact ph_freq (g := 0) (d := k) (Or.inl rfl) hk hq (fun i hi => by
        rw [h i q hi hq, if_neg (fun z => e z.2)]
        split <;> rfl) hp
theorem ph_length {post : Int32 → Prop} {k : Nat} (hk : k < 6) (hp : post (a1 k)) : wpX_length post (f0, f1, a1, a2, a3, a4, a5, a6, a7, a8, a9) (nI k) := by
  unfold wpX_length
  exact ph_isD hk (br_f (by decide) ⟨pk_in k 6 hk, by rw [nI_clamp (by omega)]; exact hp⟩)
theorem ph_lengthNo {post : Int32 → Prop} {d : Int32} (hd : d < 0 ∨ 6 ≤ d) (hp : post (-1)) : wpX_length post (f0, f1, a1, a2, a3, a4, a5, a6, a7, a8, a9) d := by
  unfold wpX_length
  exact ph_noD hd (br_t rfl hp)
theorem ph_read {post : St2 → Prop} (hp : post (0, 0, a1, a2, a3, a4, a5, a6, a7, a8, a9)) : wpX_read post (0, f1, a1, a2, a3, a4, a5, a6, a7, a8, a9) := by
  unfold wpX_read
  exact ⟨0 + 1, br_t (by decide) hp⟩
theorem ph_ask {post : Int32 → St2 → Prop} {t : Int32} (hp : ∀ f a r, r = (if t < 20 ∨ 23 < t then -1 else 1) → post r (f, 0, a1, a2, a3, a, a5, a6, a7, a8, a9)) :
    wpX_ask post (0, f1, a1, a2, a3, a4, a5, a6, a7, a8, a9) t := by
  unfold wpX_ask
  refine ph_read (br_f (by decide) (br_t (by decide) (br_t (by decide) (br_f (by decide) (br_f (by decide) (br_t (by decide) (br_t rfl (br_t rfl ?_))))))))
  refine br_c (fun g => br_t rfl (hp _ _ _ (by rw [if_pos (Or.inl g)]))) (fun g => br_c (fun g2 => br_t rfl (hp _ _ _ (by rw [if_pos (Or.inr g2)]))) (fun g2 => br_f (by decide) ⟨pk_in 0 12 (by decide), nm_e (nm_r (e' := 1) (by decide) (hp _ _ _ (by rw [if_neg (fun z => z.elim g g2)])))⟩))
theorem ph_writeNoD {post : Int32 → St2 → Prop} {d w : Int32} (hd : d < 0 ∨ 6 ≤ d) (hp : post (-1) (f0, f1, a1, a2, a3, a4, a5, a6, a7, a8, a9)) : wpX_write post (f0, f1, a1, a2, a3, a4, a5, a6, a7, a8, a9) d w := by
  unfold wpX_write
  exact ph_noD hd (br_t rfl hp)
theorem ph_writeNoW {post : Int32 → St2 → Prop} {k : Nat} {w : Int32} (hk : k < 6) (hw : w < 0 ∨ 12 ≤ w) (hp : post (-1) (f0, f1, a1, a2, a3, a4, a5, a6, a7, a8, a9)) : wpX_write post (f0, f1, a1, a2, a3, a4, a5, a6, a7, a8, a9) (nI k) w := by
  unfold wpX_write
  exact ph_isD hk (br_f (by decide) (ph_noW hw (br_t rfl hp)))
theorem ph_write {post : Int32 → St2 → Prop} {k m : Nat} (hk : k < 6) (hm : m < 12) (h1 : a1 k = 0) (h3 : a3 (k * 12 + m) = 0)
    (hp : post 0 (f0, f1, upd a1 k 1, upd a2 (k * 24) (nI m), upd a3 (k * 12 + m) 1, a4, a5, a6, a7, a8, a9)) : wpX_write post (f0, f1, a1, a2, a3, a4, a5, a6, a7, a8, a9) (nI k) (nI m) := by
  have ck : (nI k).toNatClampNeg = k := nI_clamp (by omega)
  have i6 : vp_in (nI k) 6 := pk_in k 6 hk
  have i72 : vp_in (nI k * 12 + nI m) 72 := pk_in (k * 12 + m) 72 (by omega) (ph_12 k m)
  unfold wpX_write
  refine ph_isD hk (br_f (by decide) (ph_isW hm (br_f (by decide) ⟨i6, br_t (by rw [ck, h1]; decide) ⟨i6, nm_r (e' := 0) (by rw [ck, h1]) ⟨pk_in (k * 24) 144 (by omega) (ph_24 k), ?_⟩⟩⟩)))
  refine nm_r (e' := upd a2 (k * 24) (nI m)) (by rw [ph_24, nI_clamp (by omega), ph_b8 m hm]) ⟨i72, i72, ?_⟩
  refine nm_r (e' := upd a3 (k * 12 + m) 1) (by rw [ph_12, nI_clamp (by omega), h3, ph_set]) ⟨i6, i6, ?_⟩
  exact nm_r (e' := upd a1 k 1) (by rw [ck, h1, ph_inc]) hp
theorem ph_changeNoD {post : Int32 → St2 → Prop} {d p v : Int32} (hd : d < 0 ∨ 6 ≤ d) (hp : post 0 (f0, f1, a1, a2, a3, a4, a5, a6, a7, a8, a9)) : wpX_change post (f0, f1, a1, a2, a3, a4, a5, a6, a7, a8, a9) d p v := by
  unfold wpX_change
  exact ph_noD hd (br_t rfl hp)
theorem ph_changeNo {post : Int32 → St2 → Prop} {k : Nat} {p v : Int32} (hk : k < 6) (h : ¬ p < 0 → ¬ a1 k ≤ p → v < 0 ∨ 12 ≤ v) (hp : post 0 (f0, f1, a1, a2, a3, a4, a5, a6, a7, a8, a9)) :
    wpX_change post (f0, f1, a1, a2, a3, a4, a5, a6, a7, a8, a9) (nI k) p v := by
  have ck : (nI k).toNatClampNeg = k := nI_clamp (by omega)
  unfold wpX_change
  exact ph_isD hk (br_f (by decide) (br_c (fun _ => hp) (fun g => ⟨pk_in k 6 hk, br_c (fun _ => hp) (fun g2 => ph_noW (h g (by rw [ck] at g2; exact g2)) (br_t rfl hp))⟩)))
theorem ph_change {post : Int32 → St2 → Prop} {k m q : Nat} (hk : k < 6) (hm : m < 12) (hq : q < 12) (h1 : a1 k = 1) (h2 : a2 (k * 24) = nI m) (h3 : a3 (k * 12 + m) = 1) (h0 : upd a3 (k * 12 + m) 0 (k * 12 + q) = 0)
    (hp : post 1 (f0, f1, a1, upd a2 (k * 24) (nI q), upd (upd a3 (k * 12 + m) 0) (k * 12 + q) 1, a4, a5, a6, a7, a8, a9)) : wpX_change post (f0, f1, a1, a2, a3, a4, a5, a6, a7, a8, a9) (nI k) 0 (nI q) := by
  have ck : (nI k).toNatClampNeg = k := nI_clamp (by omega)
  have i144 : vp_in (nI k * 24 + 0) 144 := pk_in (k * 24) 144 (by omega) (ph_24 k)
  have i72 : ∀ j, j < 12 → vp_in (nI k * 12 + nI j) 72 := fun j hj => pk_in (k * 12 + j) 72 (by omega) (ph_12 k j)
  unfold wpX_change
  refine ph_isD hk (br_f (by decide) (br_f (by decide) ⟨pk_in k 6 hk, br_f (by rw [ck, h1]; decide) (ph_isW hq (br_f (by decide) ⟨i144, nm_r (e' := nI m) (by rw [ph_24, nI_clamp (by omega), h2]) ⟨i72 m hm, i72 m hm, ?_⟩⟩))⟩))
  refine nm_r (e' := upd a3 (k * 12 + m) 0) (by rw [ph_12, nI_clamp (by omega), h3, ph_clr]) ⟨i144, ?_⟩
  refine nm_r (e' := upd a2 (k * 24) (nI q)) (by rw [ph_24, nI_clamp (by omega), ph_b8 q hq]) ⟨i72 q hq, i72 q hq, ?_⟩
  exact nm_r (e' := upd (upd a3 (k * 12 + m) 0) (k * 12 + q) 1) (by rw [ph_12, nI_clamp (by omega), h0, ph_set]) hp
end
theorem ph_init {post : St2 → Prop} (hp : post (0, 0, (fun _ => 0), (fun _ => 0), (fun _ => 0), (fun _ => 0), (fun _ => 0), (fun _ => 0), (fun _ => 0), (fun _ => 0), (fun _ => 0))) : wpX_init post 9 574 (0, 0) := by
  unfold wpX_init
  exact ⟨by decide, by decide, by decide, by decide, by decide, by decide, by decide, by decide, by decide, by decide, by decide, by decide, by decide, by decide, by decide, by decide, by decide, by decide, hp⟩
end
section
/-! what the law says of the answers, from its end to its beginning -/
theorem ph_6 {d : Int32} (h : 6 ≤ d) : 5 < d := by
  rw [Int32.lt_iff_toInt_lt]
  rw [Int32.le_iff_toInt_le] at h
  have a : (6 : Int32).toInt = 6 := by decide
  have b : (5 : Int32).toInt = 5 := by decide
  omega
theorem ph_w12 {d : Int32} (h : 12 ≤ d) : 11 < d := by
  rw [Int32.lt_iff_toInt_lt]
  rw [Int32.le_iff_toInt_le] at h
  have a : (12 : Int32).toInt = 12 := by decide
  have b : (11 : Int32).toInt = 11 := by decide
  omega
theorem ph_p0 {p : Int32} (h : ¬ p < 0) (h1 : ¬ 1 ≤ p) : p = 0 := by
  obtain ⟨j, hj, rfl⟩ := nI_of h
  have z1 : ¬ 1 ≤ j := fun z => h1 (nI_le (a := 1) z hj)
  have e : j = 0 := by omega
  rw [e, nI_0]
section
variable {post : Int32 → St0 → Prop} {mc ms kc ks : Nat} {x0 x1 x2 x3 x4 x6 x7 x8 x9 x10 x11 x12 x13 x14 x15 z0 z1 : Int32}
theorem ph_251 (hz : z1 = z0) (hp : post 1 ()) : wL_lawOf_251 post mc ms z0 z1 kc ks := br_t hz hp
theorem ph_250 (hz : z0 = 0) (hp : post 1 ()) : wL_lawOf_250 post mc ms z0 kc ks := by
  unfold wL_lawOf_250
  exact ph_251 hz hp
theorem ph_230 (hz : z1 = z0) (h11 : x11 = if x13 = 0 then 0 else if x15 = x1 then 1 else 0) (hp : post 1 ()) : wL_lawOf_230 post mc ms x1 x11 x13 x15 z0 z1 kc ks :=
  br_t hz (br_c (fun g => ph_250 (by rw [h11, if_pos g]) hp) (fun g => br_c (fun g2 => ph_251 (by rw [h11, if_neg g, if_pos g2]) hp) (fun g2 => ph_250 (by rw [h11, if_neg g, if_neg g2]) hp)))
theorem ph_229 (hz : z0 = 0) (h11 : x11 = if x13 = 0 then 0 else if x15 = x1 then 1 else 0) (hp : post 1 ()) : wL_lawOf_229 post mc ms x1 x11 x13 x15 z0 kc ks := by
  unfold wL_lawOf_229
  exact ph_230 hz h11 hp
theorem ph_206 (hz : z1 = z0) (h10 : x10 = if x13 = 0 then 0 else if x15 = x4 then (1 : Int32) <<< (x0 &&& 31) else 0) (h11 : x11 = if x13 = 0 then 0 else if x15 = x1 then 1 else 0) (hp : post 1 ()) :
    wL_lawOf_206 post mc ms x0 x1 x4 x10 x11 x13 x15 z0 z1 kc ks :=
  br_t hz (br_c (fun g => ph_229 (by rw [h10, if_pos g]) h11 hp) (fun g => br_c (fun g2 => ph_230 (by rw [h10, if_neg g, if_pos g2]) h11 hp) (fun g2 => ph_229 (by rw [h10, if_neg g, if_neg g2]) h11 hp)))
theorem ph_182 (hz : z1 = z0) (h9 : x9 = if x12 = 0 then -1 else if x13 = 0 then 0 else 1) (h10 : x10 = if x13 = 0 then 0 else if x15 = x4 then (1 : Int32) <<< (x0 &&& 31) else 0) (h11 : x11 = if x13 = 0 then 0 else if x15 = x1 then 1 else 0) (hp : post 1 ()) :
    wL_lawOf_182 post mc ms x0 x1 x4 x9 x10 x11 x12 x13 x15 z0 z1 kc ks :=
  br_t hz (br_c (fun g => ph_206 (by rw [h9, if_pos g]) h10 h11 hp) (fun g => br_c (fun g2 => ph_206 (by rw [h9, if_neg g, if_pos g2]) h10 h11 hp) (fun g2 => ph_206 (by rw [h9, if_neg g, if_neg g2]) h10 h11 hp)))
theorem ph_181 (hz : z0 = -1) (h9 : x9 = if x12 = 0 then -1 else if x13 = 0 then 0 else 1) (h10 : x10 = if x13 = 0 then 0 else if x15 = x4 then (1 : Int32) <<< (x0 &&& 31) else 0) (h11 : x11 = if x13 = 0 then 0 else if x15 = x1 then 1 else 0) (hp : post 1 ()) :
    wL_lawOf_181 post mc ms x0 x1 x4 x9 x10 x11 x12 x13 x15 z0 kc ks := by
  unfold wL_lawOf_181
  exact ph_182 hz h9 h10 h11 hp
theorem ph_153 (hz : z1 = z0) (h7 : x7 = x14) (h8 : x8 = if x2 < 20 ∨ 23 < x2 then -1 else 1) (h9 : x9 = if x12 = 0 then -1 else if x13 = 0 then 0 else 1) (h10 : x10 = if x13 = 0 then 0 else if x15 = x4 then (1 : Int32) <<< (x0 &&& 31) else 0) (h11 : x11 = if x13 = 0 then 0 else if x15 = x1 then 1 else 0) (hp : post 1 ()) :
    wL_lawOf_153 post mc ms x0 x1 x2 x4 x7 x8 x9 x10 x11 x12 x13 x14 x15 z0 z1 kc ks :=
  br_t hz (br_t h7 (br_c (fun g => ph_181 (by rw [h8, if_pos (Or.inl g)]) h9 h10 h11 hp) (fun g => br_c (fun g2 => ph_181 (by rw [h8, if_pos (Or.inr g2)]) h9 h10 h11 hp) (fun g2 => ph_182 (by rw [h8, if_neg (fun z => z.elim g g2)]) h9 h10 h11 hp))))
theorem ph_139 (h6 : x6 = if x13 = 0 then -1 else 0) (h7 : x7 = x14) (h8 : x8 = if x2 < 20 ∨ 23 < x2 then -1 else 1) (h9 : x9 = if x12 = 0 then -1 else if x13 = 0 then 0 else 1) (h10 : x10 = if x13 = 0 then 0 else if z0 = x4 then (1 : Int32) <<< (x0 &&& 31) else 0) (h11 : x11 = if x13 = 0 then 0 else if z0 = x1 then 1 else 0) (hp : post 1 ()) :
    wL_lawOf_139 post mc ms x0 x1 x2 x4 x6 x7 x8 x9 x10 x11 x12 x13 x14 z0 kc ks :=
  br_c (fun g => ph_153 (by rw [h6, if_pos g]) h7 h8 h9 h10 h11 hp) (fun g => ph_153 (by rw [h6, if_neg g]) h7 h8 h9 h10 h11 hp)
/-- not changed: the word is the one written -/
theorem ph_126w (hz : z0 = 0) (h6 : x6 = if x13 = 0 then -1 else 0) (h7 : x7 = z0) (h8 : x8 = if x2 < 20 ∨ 23 < x2 then -1 else 1) (h9 : x9 = if x12 = 0 then -1 else if x13 = 0 then 0 else 1) (h10 : x10 = if x13 = 0 then 0 else if x1 = x4 then (1 : Int32) <<< (x0 &&& 31) else 0) (h11 : x11 = if x13 = 0 then 0 else if x1 = x1 then 1 else 0) (hp : post 1 ()) :
    wL_lawOf_126 post mc ms x0 x1 x2 x4 x6 x7 x8 x9 x10 x11 x12 x13 z0 kc ks := br_t hz (ph_139 h6 h7 h8 h9 h10 h11 hp)
/-- changed: the word is the new one -/
theorem ph_126v (hz : ¬ z0 = 0) (h6 : x6 = if x13 = 0 then -1 else 0) (h7 : x7 = z0) (h8 : x8 = if x2 < 20 ∨ 23 < x2 then -1 else 1) (h9 : x9 = if x12 = 0 then -1 else if x13 = 0 then 0 else 1) (h10 : x10 = if x13 = 0 then 0 else if x4 = x4 then (1 : Int32) <<< (x0 &&& 31) else 0) (h11 : x11 = if x13 = 0 then 0 else if x4 = x1 then 1 else 0) (hp : post 1 ()) :
    wL_lawOf_126 post mc ms x0 x1 x2 x4 x6 x7 x8 x9 x10 x11 x12 x13 z0 kc ks := br_f hz (ph_139 h6 h7 h8 h9 h10 h11 hp)
theorem ph_125 (h : wL_lawOf_126 post mc ms x0 x1 x2 x4 x6 x7 x8 x9 x10 x11 x12 x13 0 kc ks) : wL_lawOf_125 post mc ms x0 x1 x2 x4 x6 x7 x8 x9 x10 x11 x12 x13 kc ks := by
  unfold wL_lawOf_125
  exact h
/-- not good: not changed -/
theorem ph_98n (h : wL_lawOf_126 post mc ms x0 x1 x2 x4 x6 x7 x8 x9 x10 x11 x12 0 0 kc ks) : wL_lawOf_98 post mc ms x0 x1 x2 x3 x4 x6 x7 x8 x9 x10 x11 x12 0 kc ks := br_t rfl (ph_125 h)
/-- good, not changed -/
theorem ph_98w (hn : x3 = 0 → ¬ x4 < 0 → ¬ 11 < x4 → False) (h : wL_lawOf_126 post mc ms x0 x1 x2 x4 x6 x7 x8 x9 x10 x11 x12 1 0 kc ks) : wL_lawOf_98 post mc ms x0 x1 x2 x3 x4 x6 x7 x8 x9 x10 x11 x12 1 kc ks :=
  br_f (by decide) (br_c (fun g => br_c (fun _ => ph_125 h) (fun g2 => br_c (fun _ => ph_125 h) (fun g3 => absurd (hn g g2 g3) id))) (fun _ => ph_125 h))
/-- good and changed -/
theorem ph_98v (h3 : x3 = 0) (h4 : ¬ x4 < 0) (h5 : ¬ 11 < x4) (h : wL_lawOf_126 post mc ms x0 x1 x2 x4 x6 x7 x8 x9 x10 x11 x12 1 1 kc ks) : wL_lawOf_98 post mc ms x0 x1 x2 x3 x4 x6 x7 x8 x9 x10 x11 x12 1 kc ks :=
  br_f (by decide) (br_t h3 (br_f h4 (br_f h5 h)))
theorem ph_97 (h : wL_lawOf_126 post mc ms x0 x1 x2 x4 x6 x7 x8 x9 x10 x11 x12 0 0 kc ks) : wL_lawOf_97 post mc ms x0 x1 x2 x3 x4 x6 x7 x8 x9 x10 x11 x12 kc ks := by
  unfold wL_lawOf_97
  exact ph_98n h
theorem ph_75 (h : wL_lawOf_126 post mc ms x0 x1 x2 x4 x6 x7 x8 x9 x10 x11 0 0 0 kc ks) : wL_lawOf_75 post mc ms x0 x1 x2 x3 x4 x6 x7 x8 x9 x10 x11 kc ks := by
  unfold wL_lawOf_75
  exact br_t rfl (ph_97 h)
theorem ph_76n (hw : x1 < 0 ∨ 12 ≤ x1) (h : wL_lawOf_126 post mc ms x0 x1 x2 x4 x6 x7 x8 x9 x10 x11 1 0 0 kc ks) : wL_lawOf_76 post mc ms x0 x1 x2 x3 x4 x6 x7 x8 x9 x10 x11 1 kc ks :=
  br_f (by decide) (br_c (fun _ => ph_97 h) (fun g => br_t (ph_w12 (hw.resolve_left g)) (ph_97 h)))
theorem ph_76y (h1 : ¬ x1 < 0) (h2 : ¬ 11 < x1) (h : wL_lawOf_98 post mc ms x0 x1 x2 x3 x4 x6 x7 x8 x9 x10 x11 1 1 kc ks) : wL_lawOf_76 post mc ms x0 x1 x2 x3 x4 x6 x7 x8 x9 x10 x11 1 kc ks :=
  br_f (by decide) (br_f h1 (br_f h2 h))
end
end
section
/-! the law: no such document; no such word; written and changed; written alone -/
theorem ph_i0 {a b : Int32} : a = if (0 : Int32) = 0 then a else b := (if_pos rfl).symm
theorem ph_i1 {a b : Int32} : b = if (1 : Int32) = 0 then a else b := (if_neg (by decide)).symm
theorem ph_lawD {d w t p v : Int32} (hd : d < 0 ∨ 6 ≤ d) : wpL_lawOf (fun r _ => r = 1) 10 585 () d w t p v := by
  unfold wpL_lawOf
  refine ⟨by decide, by decide, 9, 574, by decide, by decide, ph_init (ph_writeNoD hd (ph_changeNoD hd (ph_ask (fun f a r hr => ph_lengthNo hd (ph_havingZ (fun _ => rfl) (ph_freqZ (fun _ => rfl) ?_))))))⟩
  refine br_c (fun _ => ph_75 ?_) (fun g => br_t (ph_6 (hd.resolve_left g)) (ph_75 ?_))
  · exact ph_126w rfl ph_i0 rfl hr ph_i0 ph_i0 ph_i0 rfl
  · exact ph_126w rfl ph_i0 rfl hr ph_i0 ph_i0 ph_i0 rfl
theorem ph_lawW {w t p v : Int32} {k : Nat} (hk : k < 6) (hw : w < 0 ∨ 12 ≤ w) : wpL_lawOf (fun r _ => r = 1) 10 585 () (nI k) w t p v := by
  unfold wpL_lawOf
  refine ⟨by decide, by decide, 9, 574, by decide, by decide, ph_init (ph_writeNoW hk hw (ph_changeNo hk (fun g g2 => absurd (Int32.not_lt.mp g) g2) (ph_ask (fun f a r hr => ph_length hk (ph_havingZ (fun _ => rfl) (ph_freqZ (fun _ => rfl) ?_))))))⟩
  refine br_f (nI_pos (by omega)) (br_f (nI_nlt (a := 5) (b := k) (by omega) (by decide)) (ph_76n hw ?_))
  exact ph_126w rfl ph_i0 rfl hr (ph_i0.trans ph_i1) ph_i0 ph_i0 rfl
theorem ph_z0 (k m q : Nat) : upd (upd (fun _ => 0) (k * 12 + m) 1) (k * 12 + m) 0 (k * 12 + q) = 0 := by
  by_cases e : k * 12 + q = k * 12 + m
  · rw [e, pk_us]
  · rw [pk_un e, pk_un e]
theorem ph_lawV {t : Int32} {k m q : Nat} (hk : k < 6) (hm : m < 12) (hq : q < 12) : wpL_lawOf (fun r _ => r = 1) 10 585 () (nI k) (nI m) t 0 (nI q) := by
  unfold wpL_lawOf
  refine ⟨by decide, by decide, 9, 574, by decide, by decide, ph_init (ph_write hk hm rfl rfl (ph_change hk hm hq pk_us pk_us pk_us (ph_z0 k m q) (ph_ask (fun f a r hr => ph_length hk (ph_havingP hk hq (ph_P2 hk hm hq) (ph_freqP hk hq (ph_P2 hk hm hq) ?_))))))⟩
  refine br_f (nI_pos (by omega)) (br_f (nI_nlt (a := 5) (b := k) (by omega) (by decide)) (ph_76y (nI_pos (by omega)) (nI_nlt (a := 11) (b := m) (by omega) (by decide)) (ph_98v rfl (nI_pos (by omega)) (nI_nlt (a := 11) (b := q) (by omega) (by decide)) ?_)))
  exact ph_126v (by decide) ph_i1 rfl hr (pk_us.trans (ph_i1.trans ph_i1)) ph_i1 ph_i1 rfl
theorem ph_lawN {t p v : Int32} {k m : Nat} (hk : k < 6) (hm : m < 12) (hn : p = 0 → v < 0 ∨ 12 ≤ v) : wpL_lawOf (fun r _ => r = 1) 10 585 () (nI k) (nI m) t p v := by
  unfold wpL_lawOf
  refine ⟨by decide, by decide, 9, 574, by decide, by decide, ph_init (ph_write hk hm rfl rfl (ph_changeNo hk (fun g g2 => hn (ph_p0 g (by rw [pk_us] at g2; exact g2))) (ph_ask (fun f a r hr => ph_length hk (ph_havingP hk hm (ph_P1 hk hm) (ph_freqP hk hm (ph_P1 hk hm) ?_))))))⟩
  refine br_f (nI_pos (by omega)) (br_f (nI_nlt (a := 5) (b := k) (by omega) (by decide)) (ph_76y (nI_pos (by omega)) (nI_nlt (a := 11) (b := m) (by omega) (by decide)) (ph_98w (fun e g g2 => (hn e).elim g (fun z => g2 (ph_w12 z))) ?_)))
  exact ph_126w rfl ph_i1 rfl hr (pk_us.trans (ph_i1.trans ph_i1)) ph_i1 ph_i1 rfl
theorem ph_lawAll (d w t p v : Int32) : wpL_lawOf (fun r _ => r = 1) 10 585 () d w t p v := by
  rcases pk_ix d (n := 6) (by decide) with hd | hd | ⟨k, hk, rfl⟩
  · exact ph_lawD (Or.inl hd)
  · exact ph_lawD (Or.inr hd)
  · rcases pk_ix w (n := 12) (by decide) with hw | hw | ⟨m, hm, rfl⟩
    · exact ph_lawW hk (Or.inl hw)
    · exact ph_lawW hk (Or.inr hw)
    · by_cases hp : p = 0
      · rcases pk_ix v (n := 12) (by decide) with hv | hv | ⟨q, hq, rfl⟩
        · exact ph_lawN hk hm (fun _ => Or.inl hv)
        · exact ph_lawN hk hm (fun _ => Or.inr hv)
        · rw [hp]
          exact ph_lawV hk hm hq
      · exact ph_lawN hk hm (fun z => absurd z hp)
end
section
theorem ph_cell {post : Int32 → Prop} {L : Nat} {xs : Nat → Int32} (hL : L ≤ 5) (i : Nat) (hi : i < 5) (h : ∀ r, post r) : wpL_cellAt post L xs () (nI i) :=
  pk_le L i (fun _ => h 0) (fun z => ⟨pk_in i L z, h _⟩)
theorem i_vc (xs : Nat → Int32) (L : Nat) (hL : L ≤ 5) : wpL_law (fun r => r = 1) L xs := by
  unfold wpL_law
  exact ph_cell hL 0 (by decide) (fun d => ph_cell hL 1 (by decide) (fun w => ph_cell hL 2 (by decide) (fun t => ph_cell hL 3 (by decide) (fun p => ph_cell hL 4 (by decide) (fun v => ⟨10, 585, by decide, by decide, ph_lawAll d w t p v⟩)))))
end
