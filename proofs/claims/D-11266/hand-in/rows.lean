section
/-! small facts -/
theorem qz_in {x : Int32} {n : Nat} (h : 0 ≤ x.toInt ∧ x.toInt < n) : vp_in x n := vp_in_iff.mpr h
theorem qz_ix (s i : Nat) : nI s * 4 + nI i = nI (s * 4 + i) := by
  rw [show (4 : Int32) = nI 4 from rfl, pk_mul, nI_add]
theorem qz_ic {s i : Nat} (h : s < 2) (hi : i < 4) : (nI s * 4 + nI i).toNatClampNeg = s * 4 + i := by
  rw [qz_ix, nI_clamp (by omega)]
theorem qz_ii {s i N : Nat} (h : s < 2) (hi : i < 4) (hN : 8 ≤ N) (hM : N < 2 ^ 31) : vp_in (nI s * 4 + nI i) N := by
  rw [qz_ix]
  exact vp_in_nI (by omega) hM
theorem qz_uL (k : Nat) : vp_updL (fun _ => 0) k 0 = fun _ => 0 := by
  funext j
  unfold vp_updL
  split
  · rfl
  · rfl
theorem qz_uI (k : Nat) : upd (fun _ => 0) k 0 = fun _ => 0 := by
  funext j
  unfold upd
  split
  · rfl
  · rfl
theorem qz_fill {f s : Nat → Int64} {i k : Nat} {x : Int64} (hk : k = i) (h : ∀ j, j < i → s j = f j) (hx : x = f i) : ∀ j, j < i + 1 → vp_updL s k x j = f j := by
  intro j hj
  rw [hk]
  by_cases e : j = i
  · rw [e, pk_uLs, hx]
  · rw [pk_uLn e]
    exact h j (by omega)
/-- the bit of event k, of any k below 4 -/
theorem qz_sh : ∀ k : Nat, k < 4 → (1 : Int32) <<< (nI k &&& 31) = nI (2 ^ k) := by decide +kernel
theorem qz_bit : ∀ k : Nat, k < 4 → (1 : Int32) <<< ((nI k &&& 3) &&& 31) = nI (2 ^ k) := by decide +kernel
/-- barred: the component tests the same bit as the law -/
theorem qz_bar : ∀ b : Nat, b < 16 → ∀ k : Nat, k < 4 → ((nI b >>> (nI k &&& 31)) &&& 1 = 0 ↔ nI b &&& nI (2 ^ k) = 0) := by decide +kernel
theorem qz_bar0 : ∀ k : Nat, k < 4 → ((0 : Int32) >>> (nI k &&& 31)) &&& 1 = 0 := by decide +kernel
theorem qz_bars : ∀ i : Nat, i < 4 → ∀ k : Nat, k < 4 → (((((1 : Int32) <<< (nI i &&& 31)) >>> (nI k &&& 31)) &&& 1 = 0) ↔ ¬ i = k) := by decide +kernel

section
variable {h0 m0 e0 j0 st : Int32} {fi : Int64} {lg : Int32} {a1 a2 : Nat → Int32} {a3 : Nat → Int64} {a4 : Nat → Int32} {a5 : Nat → Int64} {a6 : Nat → Int32} {a7 : Nat → Int64} {a8 : Nat → Int32} {a9 : Nat → Int64}

/-! making an expression -/
theorem qz_clear {post : St2 → Prop} {x : Int32} (hx : x = 0 ∨ x = 1) (H : post (h0, m0, e0, j0, st, fi, lg, a1, a2, (fun _ => 0), a4, a5, a6, a7, a8, a9)) :
    wpX_clearEdges post (h0, m0, e0, j0, st, fi, lg, a1, a2, (fun _ => 0), a4, a5, a6, a7, a8, a9) x := by
  rcases hx with rfl | rfl
  · exact ⟨5, br_f (by decide) ⟨qz_in (by decide), nm_r (qz_uL _) (nm_r (e' := 1) (by decide)
      (br_f (by decide) ⟨qz_in (by decide), nm_r (qz_uL _) (nm_r (e' := 2) (by decide)
      (br_f (by decide) ⟨qz_in (by decide), nm_r (qz_uL _) (nm_r (e' := 3) (by decide)
      (br_f (by decide) ⟨qz_in (by decide), nm_r (qz_uL _) (nm_r (e' := 4) (by decide)
      (br_t (by decide) H))⟩))⟩))⟩))⟩⟩
  · exact ⟨5, br_f (by decide) ⟨qz_in (by decide), nm_r (qz_uL _) (nm_r (e' := 1) (by decide)
      (br_f (by decide) ⟨qz_in (by decide), nm_r (qz_uL _) (nm_r (e' := 2) (by decide)
      (br_f (by decide) ⟨qz_in (by decide), nm_r (qz_uL _) (nm_r (e' := 3) (by decide)
      (br_f (by decide) ⟨qz_in (by decide), nm_r (qz_uL _) (nm_r (e' := 4) (by decide)
      (br_t (by decide) H))⟩))⟩))⟩))⟩⟩

theorem qz_open {post : Int32 → St2 → Prop} (H : post 0 (1, m0, e0, j0, st, fi, lg, (fun _ => 0), upd (fun _ => 0) 0 2, (fun _ => 0), (fun _ => 0), a5, a6, a7, a8, a9)) :
    wpX_open post (0, m0, e0, j0, st, fi, lg, (fun _ => 0), (fun _ => 0), (fun _ => 0), (fun _ => 0), a5, a6, a7, a8, a9) 2 := by
  refine br_t (by decide) ?_
  refine ⟨qz_in (by decide), nm_r (qz_uI _) ⟨qz_in (by decide), nm_r (e' := upd (fun _ => 0) 0 2) rfl (nm_r (e' := 1) (by decide) ⟨3, ?_⟩)⟩⟩
  refine br_f (by decide) ⟨qz_in (by decide), nm_r (qz_uI _) (qz_clear (Or.inl rfl) (nm_r (e' := 1) (by decide) ?_))⟩
  refine br_f (by decide) ⟨qz_in (by decide), nm_r (qz_uI _) (qz_clear (Or.inr rfl) (nm_r (e' := 2) (by decide) ?_))⟩
  exact br_t (by decide) H

theorem qz_event {post : Int32 → St2 → Prop} {k : Nat} (hk : k < 4)
    (H : post 1 (1, 1, 1, j0, st, fi, lg, (fun _ => 0), upd (fun _ => 0) 0 2, vp_updL (fun _ => 0) k 2, upd (fun _ => 0) 1 1, a5, a6, a7, a8, a9)) :
    wpX_event post (0, 0, 0, j0, st, fi, lg, (fun _ => 0), (fun _ => 0), (fun _ => 0), (fun _ => 0), a5, a6, a7, a8, a9) (nI k) := by
  refine br_f (nI_pos (by omega)) (br_t (nI_le (b := 3) (by omega) (by decide)) (br_f (by decide) (br_f (by decide) (br_f (by decide) (qz_open ?_)))))
  refine ⟨qz_ii (s := 0) (by omega) hk (by omega) (by omega), nm_r (e' := vp_updL (fun _ => 0) k 2) ?_ ⟨qz_in (by decide), nm_r (e' := upd (fun _ => 0) 1 1) rfl (nm_r (e' := 1) (by decide) (nm_r (e' := 1) (by decide) H))⟩⟩
  have e : ((0 : Int32) * 4 + nI k).toNatClampNeg = k := by
    have := qz_ic (s := 0) (i := k) (by omega) hk
    rw [Nat.zero_mul, Nat.zero_add] at this
    exact this
  rw [e]

/-! define -/
theorem qz_d59 {post : Int32 → St2 → Prop} {J : Int32 → Int64 → (Nat → Int32) → (Nat → Int32) → (Nat → Int64) → (Nat → Int32) → (Nat → Int64) → (Nat → Int32) → (Nat → Int64) → (Nat → Int32) → (Nat → Int64) → Prop}
    (s : Nat) (hs : s < 2) (hb : ∀ j, j < s * 4 → a7 j = a3 j) (H : ∀ t : Nat → Int64, (∀ j, j < s * 4 + 4 → t j = a3 j) → J (nI (s + 1)) fi a1 a2 a3 a4 a5 a6 t a8 a9) :
    ∃ n, wX_define_59 post J (nI s) h0 m0 e0 j0 st fi lg n 0 a1 a2 a3 a4 a5 a6 a7 a8 a9 :=
  pk_loop (fun n i t => wX_define_59 post J (nI s) h0 m0 e0 j0 st fi lg n (nI i) a1 a2 a3 a4 a5 a6 t a8 a9) (fun i t => ∀ j, j < s * 4 + i → t j = a3 j) 4 0 a7 (by omega) hb
    (fun n t h => pk_le 4 4 (fun _ => nm_r (nI_1 s) (H t h)) (fun z => absurd z (by omega)))
    (fun n i t hi h hw => pk_le 4 i (fun z => absurd z (by omega)) (fun _ => ⟨qz_ii hs hi (by omega) (by omega), qz_ii hs hi (by omega) (by omega),
      nm_e (nm_r (nI_1 i) (hw _ (fun j hj => qz_fill (i := s * 4 + i) (qz_ic hs hi) h (by rw [qz_ic hs hi]) j (by omega))))⟩))

theorem qz_define {post : Int32 → St2 → Prop} (h2 : a2 0 = 2) (h40 : a4 0 = 0) (h41 : a4 1 = 1)
    (H : ∀ t : Nat → Int64, (∀ j, j < 8 → t j = a3 j) → post 0 (0, 0, 0, j0, 2, 2, 0, a1, a2, a3, a4, a5, a6, t, a8, a9)) :
    wpX_define post (1, m0, e0, j0, st, fi, lg, a1, a2, a3, a4, a5, a6, a7, a8, a9) := by
  refine br_t rfl (nm_r h2 ⟨3, ?_⟩)
  refine br_f (by decide) ⟨qz_in (by decide), br_t h40 (qz_d59 0 (by omega) (fun j hj => absurd hj (by omega)) (fun t ht => ?_))⟩
  refine br_f (by decide) ⟨qz_in (by decide), br_f (c := a4 (nI 1).toNatClampNeg = 0) ?_ (nm_r (e' := 2) (by decide) (qz_d59 1 (by omega) (fun j hj => ht j (by omega)) (fun t' ht' => ?_)))⟩
  · rw [nI_clamp (by omega), h41]
    decide
  · exact br_t (by decide) (H t' (fun j hj => ht' j (by omega)))
end
end
section
section
variable {h0 m0 e0 j0 st : Int32} {fi : Int64} {lg : Int32} {a1 a2 : Nat → Int32} {a3 : Nat → Int64} {a4 : Nat → Int32} {a5 : Nat → Int64} {a6 : Nat → Int32} {a7 : Nat → Int64} {a8 : Nat → Int32} {a9 : Nat → Int64}

theorem qz_c0 {i : Nat} (hi : i < 4) : ((0 : Int32) * 4 + nI i).toNatClampNeg = i := by
  have := qz_ic (s := 0) (i := i) (by omega) hi
  rw [Nat.zero_mul, Nat.zero_add] at this
  exact this

/-! step, from the set 1: the row of state 0 -/
theorem qz_step2 {ps : Int64 → Prop} {x : Int64} {i : Nat} (hi : i < 4) (hx : x = 1) (hp : ps (a7 i)) :
    wpX_step ps (h0, m0, e0, j0, 2, fi, lg, a1, a2, a3, a4, a5, a6, a7, a8, a9) x (nI i) := by
  subst hx
  refine ⟨3, br_f (by decide) (br_t (by decide) ⟨qz_ii (s := 0) (by omega) hi (by omega) (by omega), nm_r (e' := a7 i) (by rw [qz_c0 hi]; exact Int64.zero_or) (nm_r (e' := 1) (by decide) ?_)⟩)⟩
  refine br_f (by decide) (br_f (by decide) (nm_r (e' := 2) (by decide) ?_))
  exact br_t (by decide) hp
theorem qz_step1 {ps : Int64 → Prop} {x : Int64} {i : Nat} (hi : i < 4) (hx : x = 1) (hp : ps (a7 i)) :
    wpX_step ps (h0, m0, e0, j0, 1, fi, lg, a1, a2, a3, a4, a5, a6, a7, a8, a9) x (nI i) := by
  subst hx
  refine ⟨2, br_f (by decide) (br_t (by decide) ⟨qz_ii (s := 0) (by omega) hi (by omega) (by omega), nm_r (e' := a7 i) (by rw [qz_c0 hi]; exact Int64.zero_or) (nm_r (e' := 1) (by decide) ?_)⟩)⟩
  exact br_t (by decide) hp

/-- what a name's place says: the names collected below i, when k alone counts -/
def qz_nm (k i : Nat) : Int32 := if k < i then nI (2 ^ k) else 0
theorem qz_nm_hit {k : Nat} (hk : k < 4) : qz_nm k k ||| ((1 : Int32) <<< (nI k &&& 31)) = qz_nm k (k + 1) := by
  unfold qz_nm
  rw [if_neg (by omega), if_pos (by omega), qz_sh k hk]
  exact Int32.zero_or
theorem qz_nm_miss {k i : Nat} (h : ¬ i = k) : qz_nm k (i + 1) = qz_nm k i := by
  unfold qz_nm
  by_cases e : k < i
  · rw [if_pos e, if_pos (by omega)]
  · rw [if_neg e, if_neg (by omega)]

/-! next -/
theorem qz_next {post : Int32 → Prop} {k : Nat}
    (hs : ∀ (ps : Int64 → Prop) (x : Int64) (i : Nat), i < 4 → x = 1 → ps (a7 i) → wpX_step ps (h0, m0, e0, j0, st, fi, 0, a1, a2, a3, a4, a5, a6, a7, a8, a9) x (nI i))
    (h9 : a9 (0 : Int32).toNatClampNeg = 1) (ha : ∀ i, i < 4 → a7 i = if i = k then 2 else 0) (hp : post (qz_nm k 4)) :
    wpX_next post (h0, m0, e0, j0, st, fi, 0, a1, a2, a3, a4, a5, a6, a7, a8, a9) :=
  pk_loop (fun n i x => wX_next_4 post h0 m0 e0 j0 st fi 0 a1 a2 a3 a4 a5 a6 a7 a8 a9 n x (nI i)) (fun i x => x = qz_nm k i) 4 0 0 (by omega) (by unfold qz_nm; rw [if_neg (by omega)])
    (fun n x h => pk_le 4 4 (fun _ => by
      have h' : x = qz_nm k 4 := h
      rw [h']
      exact hp) (fun z => absurd z (by omega)))
    (fun n i x hi h hw => pk_le 4 i (fun z => absurd z (by omega)) (fun _ => ⟨qz_in (by decide), hs _ _ i hi h9 (by
      have h' : x = qz_nm k i := h
      by_cases e : i = k
      · subst e
        exact br_f (by rw [ha i hi, if_pos rfl]; decide) (nm_e (nm_r (nI_1 i) (hw _ (by rw [h']; exact qz_nm_hit hi))))
      · exact br_t (by rw [ha i hi, if_neg e]) (nm_r (nI_1 i) (hw _ (by rw [h']; exact (qz_nm_miss e).symm)))
      )⟩))

/-! before: a row without a hit, and a row with one at k -/
theorem qz_row0 {post : Int64 → Prop} {J : Int64 → Int32 → Prop} {near x4 : Int64} {x3 : Int32} (s : Nat) (hs : s < 2) (hz : ∀ i, i < 4 → a7 (s * 4 + i) = 0) (H : J x4 (nI (s + 1))) :
    ∃ n, wX_before_18 post J near x3 (nI s) h0 m0 e0 j0 st fi lg a1 a2 a3 a4 a5 a6 a7 a8 a9 n x4 0 :=
  pk_loop (σ := Unit) (fun n i _ => wX_before_18 post J near x3 (nI s) h0 m0 e0 j0 st fi lg a1 a2 a3 a4 a5 a6 a7 a8 a9 n x4 (nI i)) (fun _ _ => True) 4 0 () (by omega) trivial
    (fun n _ _ => pk_le 4 4 (fun _ => nm_r (nI_1 s) H) (fun z => absurd z (by omega)))
    (fun n i _ hi _ hw => pk_le 4 i (fun z => absurd z (by omega)) (fun _ => br_c
      (fun _ => ⟨qz_ii hs hi (by omega) (by omega), br_t (by rw [qz_ic hs hi, hz i hi]; exact Int64.zero_and) (nm_r (nI_1 i) (hw () trivial))⟩)
      (fun _ => nm_r (nI_1 i) (hw () trivial))))
theorem qz_row1 {post : Int64 → Prop} {J : Int64 → Int32 → Prop} {near x4 y : Int64} {x3 : Int32} {k : Nat} (s : Nat) (hs : s < 2) (hk : k < 4)
    (hz : ∀ i, i < 4 → ¬ i = k → a7 (s * 4 + i) = 0) (hh : ¬ a7 (s * 4 + k) &&& near = 0)
    (hy : (x3 >>> (nI k &&& 31)) &&& 1 = 0 → x4 ||| ((1 : Int64) <<< ((nI s).toInt64 &&& 63)) = y) (hn : ¬ (x3 >>> (nI k &&& 31)) &&& 1 = 0 → x4 = y) (H : J y (nI (s + 1))) :
    ∃ n, wX_before_18 post J near x3 (nI s) h0 m0 e0 j0 st fi lg a1 a2 a3 a4 a5 a6 a7 a8 a9 n x4 0 :=
  pk_loop (fun n i x => wX_before_18 post J near x3 (nI s) h0 m0 e0 j0 st fi lg a1 a2 a3 a4 a5 a6 a7 a8 a9 n x (nI i)) (fun i x => x = if k < i then y else x4) 4 0 x4 (by omega) (by rw [if_neg (by omega)])
    (fun n x h => pk_le 4 4 (fun _ => nm_r (nI_1 s) (by
      have h' : x = if k < 4 then y else x4 := h
      rw [h', if_pos hk]
      exact H)) (fun z => absurd z (by omega)))
    (fun n i x hi h hw => by
      have h' : x = if k < i then y else x4 := h
      by_cases e : i = k
      · have h2 : x = x4 := by rw [h', if_neg (by omega)]
        have hy' : (x3 >>> (nI i &&& 31)) &&& 1 = 0 → x ||| ((1 : Int64) <<< ((nI s).toInt64 &&& 63)) = y := by
          rw [e, h2]
          exact hy
        have hn' : ¬ (x3 >>> (nI i &&& 31)) &&& 1 = 0 → x = if k < i + 1 then y else x4 := by
          intro g
          rw [if_pos (by omega), h2]
          rw [e] at g
          exact hn g
        have hh' : ¬ a7 (s * 4 + i) &&& near = 0 := by
          rw [e]
          exact hh
        have h3 : y = if k < i + 1 then y else x4 := by rw [if_pos (by omega)]
        exact pk_le 4 i (fun z => absurd z (by omega)) (fun _ => br_c
          (fun g => ⟨qz_ii hs hi (by omega) (by omega), br_f (by rw [qz_ic hs hi]; exact hh') (nm_r (hy' g) (nm_r (nI_1 i) (hw y h3)))⟩)
          (fun g => nm_r (nI_1 i) (hw x (hn' g))))
      · have h2 : x = if k < i + 1 then y else x4 := by
          rw [h']
          by_cases e2 : k < i
          · rw [if_pos e2, if_pos (by omega)]
          · rw [if_neg e2, if_neg (by omega)]
        exact pk_le 4 i (fun z => absurd z (by omega)) (fun _ => br_c
          (fun _ => ⟨qz_ii hs hi (by omega) (by omega), br_t (by rw [qz_ic hs hi, hz i hi e]; exact Int64.zero_and) (nm_r (nI_1 i) (hw x h2))⟩)
          (fun _ => nm_r (nI_1 i) (hw x h2))))

/-- the moves of the process of one event k -/
def qz_mv (k : Nat) (a7 : Nat → Int64) : Prop := ∀ i, i < 8 → a7 i = if i = k then 2 else 0

theorem qz_before {post : Int64 → Prop} {near y : Int64} {x3 : Int32} {k : Nat} (hk : k < 4) (ha : qz_mv k a7) (hh : ¬ (2 : Int64) &&& near = 0)
    (hy : (x3 >>> (nI k &&& 31)) &&& 1 = 0 → near ||| 1 = y) (hn : ¬ (x3 >>> (nI k &&& 31)) &&& 1 = 0 → near = y) (hp : post y) :
    wpX_before post (h0, m0, e0, j0, 2, fi, lg, a1, a2, a3, a4, a5, a6, a7, a8, a9) near x3 := by
  refine ⟨3, br_f (by decide) (qz_row1 (k := k) (y := y) 0 (by omega) hk ?_ ?_ (fun g => by rw [show (1 : Int64) <<< ((nI 0).toInt64 &&& 63) = 1 by decide]; exact hy g) hn ?_)⟩
  · intro i hi e
    rw [ha _ (by omega), if_neg (by omega)]
  · rw [ha _ (by omega), if_pos (by omega)]
    exact hh
  · refine br_f (by decide) (qz_row0 1 (by omega) ?_ ?_)
    · intro i hi
      rw [ha _ (by omega), if_neg (by omega)]
    · exact br_t (by decide) hp

/-! least -/
theorem qz_least1 {post : Int32 → Prop} {x : Int64} {x3 : Int32} {k : Nat} (hk : k < 4) (ha : qz_mv k a7) (hx : x = 1)
    (hy : (x3 >>> (nI k &&& 31)) &&& 1 = 0 → post 1) (hn : ¬ (x3 >>> (nI k &&& 31)) &&& 1 = 0 → post (-4)) :
    wpX_least post (h0, m0, e0, j0, 2, 2, lg, a1, a2, a3, a4, a5, a6, a7, a8, a9) x x3 := by
  subst hx
  by_cases g : (x3 >>> (nI k &&& 31)) &&& 1 = 0
  · refine ⟨2, br_f (by decide) (br_t (by decide) (qz_before (y := 3) hk ha (by decide) (fun _ => by decide) (fun z => absurd g z) (br_f (by decide) (nm_r (e' := 1) (by decide) ?_))))⟩
    exact br_f (by decide) (br_f (by decide) (hy g))
  · exact ⟨1, br_f (by decide) (br_t (by decide) (qz_before (y := 2) hk ha (by decide) (fun z => absurd z g) (fun _ => rfl) (br_t rfl (hn g))))⟩
theorem qz_least2 {post : Int32 → Prop} {x : Int64} {x3 : Int32} (hx : x = 2) (hp : post 0) :
    wpX_least post (h0, m0, e0, j0, st, 2, lg, a1, a2, a3, a4, a5, a6, a7, a8, a9) x x3 := by
  subst hx
  exact ⟨1, br_f (by decide) (br_f (by decide) hp)⟩
theorem qz_least0 {post : Int32 → Prop} {x : Int64} {k : Nat} (hk : k < 4) (ha : qz_mv k a7) (hx : x = 0) (hp : post (-4)) :
    wpX_least post (h0, m0, e0, j0, 2, 2, lg, a1, a2, a3, a4, a5, a6, a7, a8, a9) x 0 := by
  subst hx
  refine ⟨2, br_f (by decide) (br_t (by decide) (qz_before (y := 3) hk ha (by decide) (fun _ => by decide) (fun z => absurd (qz_bar0 k hk) z) (br_f (by decide) (nm_r (e' := 1) (by decide) ?_))))⟩
  exact br_f (by decide) (br_t (by decide) (qz_before (y := 3) hk ha (by decide) (fun _ => by decide) (fun z => absurd (qz_bar0 k hk) z) (br_t rfl hp)))
/-- nothing defined: every state may stop -/
theorem qz_leastB {post : Int32 → Prop} {x : Int64} {x3 : Int32} (hx : x = 1) (hp : post 0) :
    wpX_least post (h0, m0, e0, j0, st, 1, lg, a1, a2, a3, a4, a5, a6, a7, a8, a9) x x3 := by
  subst hx
  exact ⟨1, br_f (by decide) (br_f (by decide) hp)⟩

/-! needed -/
theorem qz_needed {post : Int32 → Prop} {k : Nat} {v : Int32} (hv : ¬ v = -4)
    (hl : ∀ (ps : Int32 → Prop) (x : Int64) (i : Nat), i < 4 → x = 1 → ps (if i = k then -4 else v) → wpX_least ps (h0, m0, e0, j0, st, fi, 0, a1, a2, a3, a4, a5, a6, a7, a8, a9) x ((1 : Int32) <<< (nI i &&& 31)))
    (h9 : a9 (0 : Int32).toNatClampNeg = 1) (hp : post (qz_nm k 4)) :
    wpX_needed post (h0, m0, e0, j0, st, fi, 0, a1, a2, a3, a4, a5, a6, a7, a8, a9) :=
  pk_loop (fun n i x => wX_needed_4 post h0 m0 e0 j0 st fi 0 a1 a2 a3 a4 a5 a6 a7 a8 a9 n x (nI i)) (fun i x => x = qz_nm k i) 4 0 0 (by omega) (by unfold qz_nm; rw [if_neg (by omega)])
    (fun n x h => pk_le 4 4 (fun _ => by
      have h' : x = qz_nm k 4 := h
      rw [h']
      exact hp) (fun z => absurd z (by omega)))
    (fun n i x hi h hw => pk_le 4 i (fun z => absurd z (by omega)) (fun _ => ⟨qz_in (by decide), hl _ _ i hi h9 (by
      have h' : x = qz_nm k i := h
      by_cases e : i = k
      · subst e
        rw [if_pos rfl]
        exact br_t rfl (nm_e (nm_r (nI_1 i) (hw _ (by rw [h']; exact qz_nm_hit hi))))
      · rw [if_neg e]
        exact br_f hv (nm_r (nI_1 i) (hw _ (by rw [h']; exact (qz_nm_miss e).symm)))
      )⟩))

/-! advice -/
theorem qz_advice {post : Int32 → Prop} {k : Nat} (hk : k < 4) (ha : qz_mv k a7) (h9 : a9 (0 : Int32).toNatClampNeg = 1) (hp : post (nI k)) :
    wpX_advice post (h0, m0, e0, j0, 2, 2, 0, a1, a2, a3, a4, a5, a6, a7, a8, a9) := by
  refine ⟨qz_in (by decide), br_t (by rw [h9]; decide) (br_t rfl ⟨qz_in (by decide), qz_least1 hk ha h9 (fun _ => ?_) (fun z => absurd (qz_bar0 k hk) z)⟩)⟩
  exact pk_loop (σ := Unit) (fun n i _ => wX_advice_27 post 1 h0 m0 e0 j0 2 2 0 a1 a2 a3 a4 a5 a6 a7 a8 a9 n (nI i)) (fun _ _ => True) k 0 () (by omega) trivial
    (fun n _ _ => pk_le 4 k (fun z => absurd z (by omega)) (fun _ => ⟨qz_in (by decide), qz_step2 hk h9 (qz_least2 (by rw [ha k (by omega), if_pos rfl]) (br_t (by decide) hp))⟩))
    (fun n i _ hi _ hw => pk_le 4 i (fun z => absurd z (by omega)) (fun _ => ⟨qz_in (by decide), qz_step2 (by omega) h9 (qz_least0 hk ha (by rw [ha i (by omega), if_neg (by omega)]) (br_f (by decide) (nm_r (nI_1 i) (hw () trivial))))⟩))
theorem qz_adviceB {post : Int32 → Prop} (h9 : a9 (0 : Int32).toNatClampNeg = 1) (hp : post (-4)) :
    wpX_advice post (h0, m0, e0, j0, st, 1, 0, a1, a2, a3, a4, a5, a6, a7, a8, a9) :=
  ⟨qz_in (by decide), br_f (by rw [h9]; decide) (br_f (by decide) hp)⟩
end
end
section
section
variable {h0 m0 e0 j0 st : Int32} {fi : Int64} {lg : Int32} {a1 a2 : Nat → Int32} {a3 : Nat → Int64} {a4 : Nat → Int32} {a5 : Nat → Int64} {a6 : Nat → Int32} {a7 : Nat → Int64} {a8 : Nat → Int32} {a9 : Nat → Int64}

/-! remaining, feed -/
theorem qz_remaining {post : Int32 → Prop} {p0 : Int32} (H1 : p0 < 0 → post (-1)) (H2 : ¬ p0 ≤ 15 → post (-1))
    (H : ¬ p0 < 0 → p0 ≤ 15 → wpX_least post (h0, m0, e0, j0, st, fi, 0, a1, a2, a3, a4, a5, a6, a7, a8, a9) (a9 (0 : Int32).toNatClampNeg) p0) :
    wpX_remaining post (h0, m0, e0, j0, st, fi, 0, a1, a2, a3, a4, a5, a6, a7, a8, a9) p0 :=
  br_c H1 (fun g => br_c (fun g2 => ⟨qz_in (by decide), H g g2⟩) H2)

theorem qz_feed {post : Int32 → St2 → Prop} {p0 : Int32} {k : Nat}
    (hs : ∀ (ps : Int64 → Prop) (x : Int64) (i : Nat), i < 4 → x = 1 → ps (a7 i) → wpX_step ps (h0, m0, e0, j0, st, fi, 0, a1, a2, a3, a4, a5, a6, a7, a8, a9) x (nI i))
    (h9 : a9 (0 : Int32).toNatClampNeg = 1) (ha : ∀ i, i < 4 → a7 i = if i = k then 2 else 0)
    (H1 : p0 < 0 → post (-1) (h0, m0, e0, j0, st, fi, 0, a1, a2, a3, a4, a5, a6, a7, a8, a9))
    (H2 : ¬ p0 ≤ 3 → post (-1) (h0, m0, e0, j0, st, fi, 0, a1, a2, a3, a4, a5, a6, a7, a8, a9))
    (H3 : ∀ i : Nat, i < 4 → ¬ i = k → p0 = nI i → post (-4) (h0, m0, e0, j0, st, fi, 0, a1, a2, a3, a4, a5, a6, a7, a8, a9))
    (H4 : k < 4 → p0 = nI k → ∀ b8 : Nat → Int32, post 1 (h0, m0, e0, j0, st, fi, 1, a1, a2, a3, a4, a5, a6, a7, b8, vp_updL a9 1 2)) :
    wpX_feed post (h0, m0, e0, j0, st, fi, 0, a1, a2, a3, a4, a5, a6, a7, a8, a9) p0 := by
  refine br_c H1 (fun g => br_c (fun g2 => br_f (by decide) ⟨qz_in (by decide), ?_⟩) H2)
  obtain ⟨i, hi, e⟩ := nI_of2 (M := 3) (n := 3) (by decide) g g2
  subst e
  refine hs _ _ i (by omega) h9 ?_
  by_cases e : i = k
  · subst e
    refine br_f (by rw [ha i (by omega), if_pos rfl]; decide) ⟨qz_in (by decide), nm_e (nm_r (e' := 1) (by decide) ⟨qz_in (by decide), nm_r (e' := vp_updL a9 1 2) ?_ (H4 (by omega) rfl _)⟩)⟩
    rw [ha i (by omega), if_pos rfl]
    rfl
  · exact br_t (by rw [ha i (by omega), if_neg e]) (H3 i (by omega) e rfl)
end

/-! the law's checks, read backwards -/
section
variable {post : Int32 → St0 → Prop} {mc ms kc ks : Nat}
theorem qz_t272 {x14 x15 x16 z : Int32} (hp : post 1 ()) (h15 : x15 = 0) (h14 : x14 = x16) (h16 : x16 = 0 ∨ x16 = 1) : wL_lawOf_272 post mc ms x14 x15 x16 z z kc ks := by
  rcases h16 with h | h
  · exact br_t rfl (br_t h (br_t (h14.trans h) (br_t h15 hp)))
  · exact br_t rfl (br_f (by rw [h]; decide) (br_t (h14.trans h) (br_t h15 hp)))
theorem qz_t252 {x4 x13 x14 x15 x16 z : Int32} (hp : post 1 ()) (h15 : x15 = 0) (h14 : x14 = x16) (h16 : x16 = 0 ∨ x16 = 1) (h13 : x13 = if x16 = 0 then (if x4 = 0 then 1 else 0) else 1) :
    wL_lawOf_252 post mc ms x4 x13 x14 x15 x16 z z kc ks := by
  refine br_t rfl (br_c (fun g => br_c (fun g2 => ?_) (fun g2 => ?_)) (fun g => ?_))
  · rw [if_pos g, if_pos g2] at h13
    subst h13
    exact qz_t272 hp h15 h14 h16
  · rw [if_pos g, if_neg g2] at h13
    subst h13
    exact qz_t272 hp h15 h14 h16
  · rw [if_neg g] at h13
    subst h13
    exact qz_t272 hp h15 h14 h16
theorem qz_t223 {x2 x4 x12 x13 x14 x15 x16 z : Int32} (hp : post 1 ()) (h15 : x15 = 0) (h14 : x14 = x16) (h16 : x16 = 0 ∨ x16 = 1) (h13 : x13 = if x16 = 0 then (if x4 = 0 then 1 else 0) else 1)
    (f1 : x2 < 0 → x12 = -1) (f2 : ¬ x2 ≤ 3 → x12 = -1) (f3 : ¬ x2 < 0 → x2 ≤ 3 → x12 = if x16 = 0 then -4 else 1) :
    wL_lawOf_223 post mc ms x2 x4 x12 x13 x14 x15 x16 z z kc ks := by
  refine br_t rfl (br_c (fun g => ?_) (fun g => br_c (fun g2 => br_c (fun g3 => ?_) (fun g3 => ?_)) (fun g2 => ?_)))
  · rw [f1 g]
    exact qz_t252 hp h15 h14 h16 h13
  · rw [f3 g g2, if_pos g3]
    exact qz_t252 hp h15 h14 h16 h13
  · rw [f3 g g2, if_neg g3]
    exact qz_t252 hp h15 h14 h16 h13
  · rw [f2 g2]
    exact qz_t252 hp h15 h14 h16 h13
/-- k is good: x4 = 1 -/
theorem qz_t156 {x0 x2 x5 x9 x12 x13 x14 x15 x16 : Int32} (hp : post 1 ()) (h15 : x15 = 0) (h14 : x14 = x16) (h16 : x16 = 0 ∨ x16 = 1) (h13 : x13 = x16)
    (f1 : x2 < 0 → x12 = -1) (f2 : ¬ x2 ≤ 3 → x12 = -1) (f3 : ¬ x2 < 0 → x2 ≤ 3 → x12 = if x16 = 0 then -4 else 1) :
    wL_lawOf_156 post mc ms x0 x2 1 x5 1 0 x5 x9 x0 x5 x12 x13 x14 x15 x16 x9 kc ks := by
  have h : x13 = if x16 = 0 then (if (1 : Int32) = 0 then 1 else 0) else 1 := by
    rw [h13]
    rcases h16 with h | h
    · rw [h]
      decide
    · rw [h]
      decide
  exact br_f (by decide) (br_t rfl (br_f (by decide) (br_t rfl (br_t rfl (br_t rfl (br_t rfl (br_f (by decide) (qz_t223 hp h15 h14 h16 h f1 f2 f3))))))))
theorem qz_t118 {x0 x1 x2 x5 x9 x12 x13 x14 x15 x16 : Int32} (hp : post 1 ()) (h15 : x15 = 0) (h14 : x14 = x16) (h16 : x16 = 0 ∨ x16 = 1) (h13 : x13 = x16)
    (f1 : x2 < 0 → x12 = -1) (f2 : ¬ x2 ≤ 3 → x12 = -1) (f3 : ¬ x2 < 0 → x2 ≤ 3 → x12 = if x16 = 0 then -4 else 1)
    (l1 : x1 < 0 → x9 = -1) (l2 : ¬ x1 ≤ 15 → x9 = -1) (l3 : ¬ x1 < 0 → x1 ≤ 15 → x9 = if x1 &&& x5 = 0 then 1 else -4) :
    wL_lawOf_118 post mc ms x0 x1 x2 1 x5 1 0 x5 x9 x0 x5 x12 x13 x14 x15 x16 kc ks := by
  refine br_c (fun g => ?_) (fun g => br_c (fun g2 => br_f (by decide) (br_c (fun g3 => ?_) (fun g3 => ?_))) (fun g2 => ?_))
  · rw [l1 g]
    exact qz_t156 hp h15 h14 h16 h13 f1 f2 f3
  · rw [l3 g g2, if_pos g3]
    exact qz_t156 hp h15 h14 h16 h13 f1 f2 f3
  · rw [l3 g g2, if_neg g3]
    exact qz_t156 hp h15 h14 h16 h13 f1 f2 f3
  · rw [l2 g2]
    exact qz_t156 hp h15 h14 h16 h13 f1 f2 f3
/-- k is bad: x4 = 0, nothing is defined -/
theorem qz_b156 {x0 x2 x9 x12 : Int32} (hp : post 1 ()) (f1 : x2 < 0 → x12 = -1) (f2 : ¬ x2 ≤ 3 → x12 = -1) (f3 : ¬ x2 < 0 → x2 ≤ 3 → x12 = -4) :
    wL_lawOf_156 post mc ms x0 x2 0 0 (-1) (-3) 0 x9 (-4) 0 x12 1 0 0 0 x9 kc ks :=
  br_t rfl (br_t rfl (br_t rfl (br_t rfl (br_t rfl (br_t rfl (br_t rfl (br_t rfl (qz_t223 hp rfl rfl (Or.inl rfl) (by decide) f1 f2 (fun g g2 => by rw [f3 g g2]; decide)))))))))
theorem qz_b118 {x0 x1 x2 x9 x12 : Int32} (hp : post 1 ()) (f1 : x2 < 0 → x12 = -1) (f2 : ¬ x2 ≤ 3 → x12 = -1) (f3 : ¬ x2 < 0 → x2 ≤ 3 → x12 = -4)
    (l1 : x1 < 0 → x9 = -1) (l2 : ¬ x1 ≤ 15 → x9 = -1) (l3 : ¬ x1 < 0 → x1 ≤ 15 → x9 = 0) :
    wL_lawOf_118 post mc ms x0 x1 x2 0 0 (-1) (-3) 0 x9 (-4) 0 x12 1 0 0 0 kc ks := by
  refine br_c (fun g => ?_) (fun g => br_c (fun g2 => br_t rfl ?_) (fun g2 => ?_))
  · rw [l1 g]
    exact qz_b156 hp f1 f2 f3
  · rw [l3 g g2]
    exact qz_b156 hp f1 f2 f3
  · rw [l2 g2]
    exact qz_b156 hp f1 f2 f3
end
end
section
theorem qz_nm4 {k : Nat} (hk : k < 4) : qz_nm k 4 = nI (2 ^ k) := by
  unfold qz_nm
  rw [if_pos hk]
theorem qz_nm9 : qz_nm 9 4 = 0 := by
  unfold qz_nm
  rw [if_neg (by omega)]

section
variable {h0 m0 e0 j0 st : Int32} {fi : Int64} {lg : Int32} {a1 a2 : Nat → Int32} {a3 : Nat → Int64} {a4 : Nat → Int32} {a5 : Nat → Int64} {a6 : Nat → Int32} {a7 : Nat → Int64} {a8 : Nat → Int32} {a9 : Nat → Int64}
theorem qz_remainG {post : Int32 → Prop} {k : Nat} {x1 : Int32} (hk : k < 4) (ha : qz_mv k a7) (h9 : a9 (0 : Int32).toNatClampNeg = 1)
    (C : ∀ r : Int32, (x1 < 0 → r = -1) → (¬ x1 ≤ 15 → r = -1) → (¬ x1 < 0 → x1 ≤ 15 → r = if x1 &&& qz_nm k 4 = 0 then 1 else -4) → post r) :
    wpX_remaining post (h0, m0, e0, j0, 2, 2, 0, a1, a2, a3, a4, a5, a6, a7, a8, a9) x1 := by
  refine qz_remaining (fun g => C (-1) (fun _ => rfl) (fun _ => rfl) (fun g' => absurd g g')) (fun g => C (-1) (fun _ => rfl) (fun _ => rfl) (fun _ g' => absurd g' g)) (fun g g2 => ?_)
  obtain ⟨b, hb, e⟩ := nI_of2 (M := 15) (n := 15) (by decide) g g2
  have hq := qz_bar b (by omega) k hk
  rw [← e, ← qz_nm4 hk] at hq
  exact qz_least1 hk ha h9 (fun u => C 1 (fun z => absurd z g) (fun z => absurd g2 z) (fun _ _ => by rw [if_pos (hq.mp u)]))
    (fun u => C (-4) (fun z => absurd z g) (fun z => absurd g2 z) (fun _ _ => by rw [if_neg (fun z => u (hq.mpr z))]))
theorem qz_remainB {post : Int32 → Prop} {x1 : Int32} (h9 : a9 (0 : Int32).toNatClampNeg = 1)
    (C : ∀ r : Int32, (x1 < 0 → r = -1) → (¬ x1 ≤ 15 → r = -1) → (¬ x1 < 0 → x1 ≤ 15 → r = 0) → post r) :
    wpX_remaining post (h0, m0, e0, j0, st, 1, 0, a1, a2, a3, a4, a5, a6, a7, a8, a9) x1 :=
  qz_remaining (fun g => C (-1) (fun _ => rfl) (fun _ => rfl) (fun g' => absurd g g')) (fun g => C (-1) (fun _ => rfl) (fun _ => rfl) (fun _ g' => absurd g' g))
    (fun g g2 => qz_leastB h9 (C 0 (fun z => absurd z g) (fun z => absurd g2 z) (fun _ _ => rfl)))
theorem qz_neededG {post : Int32 → Prop} {k : Nat} (hk : k < 4) (ha : qz_mv k a7) (h9 : a9 (0 : Int32).toNatClampNeg = 1) (hp : post (qz_nm k 4)) :
    wpX_needed post (h0, m0, e0, j0, 2, 2, 0, a1, a2, a3, a4, a5, a6, a7, a8, a9) :=
  qz_needed (k := k) (v := 1) (by decide) (fun ps x i hi hx hq => qz_least1 hk ha hx
    (fun u => by
      rw [if_neg ((qz_bars i hi k hk).mp u)] at hq
      exact hq)
    (fun u => by
      by_cases e : i = k
      · rw [if_pos e] at hq
        exact hq
      · exact absurd ((qz_bars i hi k hk).mpr e) u)) h9 hp
theorem qz_neededB {post : Int32 → Prop} (h9 : a9 (0 : Int32).toNatClampNeg = 1) (hp : post 0) :
    wpX_needed post (h0, m0, e0, j0, st, 1, 0, a1, a2, a3, a4, a5, a6, a7, a8, a9) :=
  qz_needed (k := 9) (v := 0) (by decide) (fun ps x i hi hx hq => qz_leastB hx (by
    rw [if_neg (by omega)] at hq
    exact hq)) h9 (by
    rw [qz_nm9]
    exact hp)
theorem qz_eventB {post : Int32 → St2 → Prop} {x0 : Int32} (hb : x0 < 0 ∨ ¬ x0 ≤ 3) (H : post (-1) (h0, m0, e0, j0, st, fi, lg, a1, a2, a3, a4, a5, a6, a7, a8, a9)) :
    wpX_event post (h0, m0, e0, j0, st, fi, lg, a1, a2, a3, a4, a5, a6, a7, a8, a9) x0 :=
  br_c (fun _ => H) (fun g => br_f (hb.elim (fun z => absurd z g) id) H)
end

section
variable {post : Int32 → St0 → Prop} {mc ms kc ks : Nat}
theorem qz_good38 {k : Nat} (hk : k < 4) {x1 x2 : Int32} (hp : post 1 ()) :
    wL_lawOf_38 post mc ms (nI k) x1 x2 1 (qz_nm k 4) kc ks 0 0 0 0 1 1 0 (fun _ => 0) (fun _ => 0) (fun _ => 0) (fun _ => 0) (fun _ => 0) (fun _ => 0) (fun _ => 0) (fun _ => 0) (vp_updL (fun _ => 0) 0 1) := by
  refine qz_event hk ?_
  refine qz_define rfl rfl rfl (fun t ht => ?_)
  have hm : qz_mv k t := by
    intro i hi
    rw [ht i hi]
    rfl
  have h9 : vp_updL (fun _ => 0) 0 1 (0 : Int32).toNatClampNeg = 1 := by decide
  refine qz_next (k := k) (fun ps x i hi hx hq => qz_step2 hi hx hq) h9 (fun i hi => hm i (by omega)) ?_
  refine qz_remainG hk hm h9 (fun r l1 l2 l3 => ?_)
  refine qz_advice hk hm h9 ?_
  refine qz_neededG hk hm h9 ?_
  refine qz_feed (k := k) (fun ps x i hi hx hq => qz_step2 hi hx hq) h9 (fun i hi => hm i (by omega)) (fun g => ?_) (fun g => ?_) (fun i hi hn e => ?_) (fun _ e b8 => ?_)
  · exact ⟨qz_in (by decide), br_t (by rw [h9]; decide) (br_f (by decide) (br_f (fun z => nI_pos (n := k) (by omega) (z ▸ g))
      (qz_t118 hp rfl rfl (Or.inl rfl) rfl (fun _ => rfl) (fun _ => rfl) (fun z => absurd g z) l1 l2 l3)))⟩
  · exact ⟨qz_in (by decide), br_t (by rw [h9]; decide) (br_f (by decide) (br_f (fun z => g (by rw [z]; exact nI_le (b := 3) (by omega) (by omega)))
      (qz_t118 hp rfl rfl (Or.inl rfl) rfl (fun _ => rfl) (fun _ => rfl) (fun _ z => absurd z g) l1 l2 l3)))⟩
  · exact ⟨qz_in (by decide), br_t (by rw [h9]; decide) (br_f (by decide) (br_f (fun z => hn ((nI_eq (by omega) (by omega)).mp (e ▸ z)))
      (qz_t118 hp rfl rfl (Or.inl rfl) rfl (fun z => absurd (e ▸ z) (nI_pos (n := i) (by omega))) (fun z => absurd (e ▸ nI_le (b := 3) (by omega) (by omega)) z) (fun _ _ => rfl) l1 l2 l3)))⟩
  · exact ⟨qz_in (by decide), br_f (by decide) (br_f (by decide) (br_t e
      (qz_t118 hp rfl rfl (Or.inr rfl) rfl (fun z => absurd z (by rw [e]; exact nI_pos (by omega))) (fun z => absurd (by rw [e]; exact nI_le (b := 3) (by omega) (by omega)) z) (fun _ _ => rfl) l1 l2 l3)))⟩
theorem qz_bad38 {x0 x1 x2 : Int32} (hb : x0 < 0 ∨ ¬ x0 ≤ 3) (hp : post 1 ()) :
    wL_lawOf_38 post mc ms x0 x1 x2 0 0 kc ks 0 0 0 0 1 1 0 (fun _ => 0) (fun _ => 0) (fun _ => 0) (fun _ => 0) (fun _ => 0) (fun _ => 0) (fun _ => 0) (fun _ => 0) (vp_updL (fun _ => 0) 0 1) := by
  refine qz_eventB hb ?_
  refine br_f (by decide) ?_
  have h9 : vp_updL (fun _ => 0) 0 1 (0 : Int32).toNatClampNeg = 1 := by decide
  have ha : ∀ i : Nat, i < 4 → (fun _ => 0 : Nat → Int64) i = if i = 9 then 2 else 0 := by
    intro i hi
    rw [if_neg (by omega)]
  refine qz_next (k := 9) (fun ps x i hi hx hq => qz_step1 hi hx hq) h9 ha ?_
  rw [qz_nm9]
  refine qz_remainB h9 (fun r l1 l2 l3 => ?_)
  refine qz_adviceB h9 ?_
  refine qz_neededB h9 ?_
  refine qz_feed (k := 9) (fun ps x i hi hx hq => qz_step1 hi hx hq) h9 ha (fun g => ?_) (fun g => ?_) (fun i hi hn e => ?_) (fun z => absurd z (by omega))
  · exact ⟨qz_in (by decide), br_f (by rw [h9]; decide) (br_t rfl
      (qz_b118 hp (fun _ => rfl) (fun _ => rfl) (fun z => absurd g z) l1 l2 l3))⟩
  · exact ⟨qz_in (by decide), br_f (by rw [h9]; decide) (br_t rfl
      (qz_b118 hp (fun _ => rfl) (fun _ => rfl) (fun _ z => absurd z g) l1 l2 l3))⟩
  · exact ⟨qz_in (by decide), br_f (by rw [h9]; decide) (br_t rfl
      (qz_b118 hp (fun z => absurd z (by rw [e]; exact nI_pos (by omega))) (fun z => absurd (by rw [e]; exact nI_le (b := 3) (by omega) (by omega)) z) (fun _ _ => rfl) l1 l2 l3))⟩
theorem qz_lawOf (x0 x1 x2 : Int32) (hp : post 1 ()) : wpL_lawOf post 898 14368 () x0 x1 x2 := by
  refine ⟨by decide, by decide, 9, 1008, by decide, by decide, ?_⟩
  refine ⟨by decide, by decide, by decide, by decide, by decide, by decide, by decide, by decide, by decide, by decide, by decide, by decide, by decide, by decide, by decide, by decide, by decide, by decide, nm_e ?_⟩
  refine br_c (fun g => ?_) (fun g => br_c (fun g2 => ?_) (fun g2 => ?_))
  · exact br_t rfl (qz_bad38 (Or.inl g) hp)
  · exact br_t rfl (qz_bad38 (Or.inr (fun z => Int32.not_le.mpr g2 z)) hp)
  · obtain ⟨k, hk, e⟩ := nI_of2 (M := 3) (n := 3) (by decide) g (Int32.not_lt.mp g2)
    subst e
    refine br_f (by decide) ?_
    rw [qz_bit k (by omega), ← qz_nm4 (k := k) (by omega)]
    exact qz_good38 (by omega) hp
end
theorem qz_cell {post : Int32 → Prop} {L : Nat} {xs : Nat → Int32} (hL : L ≤ 3) (p : Nat) (hp : p < 3) (H : ∀ r, post r) : wpL_cellAt post L xs () (nI p) :=
  pk_le L p (fun _ => H 0) (fun z => ⟨pk_in p L z, H _⟩)
end
section
theorem i_vc (xs : Nat → Int32) (L : Nat) (hL : L ≤ 3) : wpL_law (fun r => r = 1) L xs :=
  qz_cell hL 0 (by omega) (fun r1 => qz_cell hL 1 (by omega) (fun r2 => qz_cell hL 2 (by omega) (fun r3 => ⟨898, 14368, by decide, by decide, qz_lawOf r1 r2 r3 rfl⟩)))
end
