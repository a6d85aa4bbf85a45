section
/-! ===== indices at node 0 of tree 0 ===== -/
theorem ht_m7 (x : Int32) : (0 : Int32) * 7 + x = x := by rw [Int32.zero_mul, Int32.zero_add]
theorem ht_m24 (x : Int32) : (0 : Int32) * 24 + x = x := by rw [Int32.zero_mul, Int32.zero_add]
theorem ht_c7 (i : Nat) (h : i < 2 ^ 31) : ((0 : Int32) * 7 + nI i).toNatClampNeg = i := by rw [ht_m7, nI_clamp h]
theorem ht_c24 (i : Nat) (h : i < 2 ^ 31) : ((0 : Int32) * 24 + nI i).toNatClampNeg = i := by rw [ht_m24, nI_clamp h]
theorem ht_ix (f x : Nat) : (0 : Int32) * 24 + nI f * 8 + nI x = nI (f * 8 + x) := by
  rw [ht_m24, show nI f * 8 = nI (f * 8) from pk_mul f 8, nI_add]
theorem ht_cx (f x : Nat) (h : f * 8 + x < 2 ^ 31) : ((0 : Int32) * 24 + nI f * 8 + nI x).toNatClampNeg = f * 8 + x := by rw [ht_ix, nI_clamp h]
theorem ht_half (i : Nat) (h1 : 1 ≤ i) (h : i < 2 ^ 31) : (0 : Int32) * 7 + (nI i - 1) / 2 = nI ((i - 1) / 2) := by
  rw [ht_m7, show nI i - 1 = nI (i - 1) from pk_sub h1]
  exact pk_div (d := 2) (by omega) (by decide) (by decide)
theorem ht_fill {s : Nat → Int32} {y : Int32} {i : Nat} (h : ∀ j, j < i → s j = y) : ∀ j, j < i + 1 → upd s i y j = y := by
  intro j hj
  by_cases e : j = i
  · rw [e, pk_us]
  · rw [pk_un e]
    exact h j (by omega)
theorem ht_pos {x : Int32} (h : 1 ≤ x) : 0 < x.toInt64 := by
  rw [Int64.lt_iff_toInt_lt, Int32.toInt_toInt64]
  rw [Int32.le_iff_toInt_le] at h
  have e : (1 : Int32).toInt = 1 := by decide
  have e2 : (0 : Int64).toInt = 0 := by decide
  omega
/-! ===== one feature's eight cells: one of them holds y, the others 0 ===== -/
def ht_R (y : Int32) (x : Nat) (a : Nat → Int32) (f : Nat) : Prop := ∀ j, j < 8 → a (f * 8 + j) = if j = x then y else 0
/-- the histogram of c rows (0 or 1) whose rests sum to v -/
def ht_C (c : Nat) (v : Int32) (a9 a10 : Nat → Int32) : Prop := ∀ f, f < 3 → ∃ x, x < 8 ∧ ht_R (nI c) x a9 f ∧ ht_R v x a10 f
/-- the running sum over the first i cells -/
def ht_P (y : Int32) (x i : Nat) : Int32 := if x < i then y else 0
theorem ht_P0 (y : Int32) (x : Nat) : ht_P y x 0 = 0 := if_neg (Nat.not_lt_zero x)
theorem ht_P8 {y : Int32} {x : Nat} (hx : x < 8) : ht_P y x 8 = y := if_pos hx
theorem ht_Ps {y : Int32} {x f i : Nat} {a : Nat → Int32} (h : ht_R y x a f) (hi : i < 8) : ht_P y x i + a (f * 8 + i) = ht_P y x (i + 1) := by
  rw [h i hi]
  unfold ht_P
  by_cases e : i = x
  · subst e
    rw [if_neg (Nat.lt_irrefl i), if_pos rfl, if_pos (Nat.lt_succ_self i), Int32.zero_add]
  · by_cases g : x < i
    · rw [if_pos g, if_neg e, if_pos (show x < i + 1 by omega), Int32.add_zero]
    · rw [if_neg g, if_neg e, if_neg (show ¬ x < i + 1 by omega), Int32.add_zero]
theorem ht_Ps0 {y : Int32} {x i : Nat} {a : Nat → Int32} (h : ht_R y x a 0) (hi : i < 8) : ht_P y x i + a i = ht_P y x (i + 1) := by
  have e := ht_Ps h hi
  rw [Nat.zero_mul, Nat.zero_add] at e
  exact e
theorem ht_Por (y : Int32) (x i : Nat) : (ht_P y x i).toInt64 = 0 ∨ (ht_P y x i).toInt64 = y.toInt64 := by
  unfold ht_P
  by_cases g : x < i
  · rw [if_pos g]
    exact Or.inr rfl
  · rw [if_neg g]
    exact Or.inl (by decide)
/-- the empty histogram -/
theorem ht_C0 {b9 b10 : Nat → Int32} (h9 : ∀ j, j < 24 → b9 j = 0) (h10 : ∀ j, j < 24 → b10 j = 0) : ht_C 0 0 b9 b10 := by
  intro f hf
  refine ⟨0, by omega, fun j hj => ?_, fun j hj => ?_⟩
  · rw [h9 _ (by omega), nI_0, ite_self]
  · rw [h10 _ (by omega), ite_self]
/-- a row being added: the first i features have it, the others' cells are 0 -/
def ht_D (i : Nat) (v : Int32) (b9 b10 : Nat → Int32) : Prop := (∀ f, f < i → ∃ x, x < 8 ∧ ht_R (nI 1) x b9 f ∧ ht_R v x b10 f) ∧ ∀ k, i * 8 ≤ k → k < 24 → b9 k = 0 ∧ b10 k = 0
theorem ht_D0 {v : Int32} {b9 b10 : Nat → Int32} (h9 : ∀ j, j < 24 → b9 j = 0) (h10 : ∀ j, j < 24 → b10 j = 0) : ht_D 0 v b9 b10 :=
  ⟨fun f hf => absurd hf (Nat.not_lt_zero f), fun k _ hk => ⟨h9 k hk, h10 k hk⟩⟩
theorem ht_Ds {i x : Nat} {v : Int32} {b9 b10 : Nat → Int32} (h : ht_D i v b9 b10) (hi : i < 3) (hx : x < 8) :
    ht_D (i + 1) v (upd b9 (i * 8 + x) (b9 (i * 8 + x) + 1)) (upd b10 (i * 8 + x) (b10 (i * 8 + x) + v)) := by
  have h0 := h.2 (i * 8 + x) (by omega) (by omega)
  rw [h0.1, h0.2, Int32.zero_add, Int32.zero_add]
  refine ⟨fun f hf => ?_, fun k hk hk2 => ?_⟩
  · by_cases e : f = i
    · subst e
      refine ⟨x, hx, fun j hj => ?_, fun j hj => ?_⟩
      · by_cases g : j = x
        · subst g
          rw [pk_us, if_pos rfl]
          rfl
        · rw [pk_un (show f * 8 + j ≠ f * 8 + x by omega), if_neg g]
          exact (h.2 _ (by omega) (by omega)).1
      · by_cases g : j = x
        · subst g
          rw [pk_us, if_pos rfl]
        · rw [pk_un (show f * 8 + j ≠ f * 8 + x by omega), if_neg g]
          exact (h.2 _ (by omega) (by omega)).2
    · obtain ⟨y, hy, k9, k10⟩ := h.1 f (by omega)
      refine ⟨y, hy, fun j hj => ?_, fun j hj => ?_⟩
      · rw [pk_un (show f * 8 + j ≠ i * 8 + x by omega)]
        exact k9 j hj
      · rw [pk_un (show f * 8 + j ≠ i * 8 + x by omega)]
        exact k10 j hj
  · rw [pk_un (show k ≠ i * 8 + x by omega), pk_un (show k ≠ i * 8 + x by omega)]
    exact h.2 k (by omega) hk2
end
section
section
variable {ls ct tr bf bb : Int32} {bp bq : Int64} {a1 a2 a3 a4 a5 a6 a7 a8 a9 a10 : Nat → Int32}
/-! ===== predictions ===== -/
theorem ht_pa0 {post : Int32 → Prop} {p : Int32} (h : post 0) : wpX_predictAll post (ls, ct, 0, bf, bb, bp, bq, a1, a2, a3, a4, a5, a6, a7, a8, a9, a10) p := ⟨1, br_t (by decide) h⟩
theorem ht_pb {post : Int32 → Prop} {p : Int32} (h3 : a3 0 = -6) (h : post (a5 0)) : wpX_predictBy post (ls, ct, tr, bf, bb, bp, bq, a1, a2, a3, a4, a5, a6, a7, a8, a9, a10) 0 p :=
  ⟨1, br_f (by decide) ⟨pk_in 0 28 (by omega), br_t (show a3 0 < 0 by rw [h3]; decide) ⟨pk_in 0 28 (by omega), h⟩⟩⟩
theorem ht_pa1 {post : Int32 → Prop} {p : Int32} (h3 : a3 0 = -6) (h : post (a5 0)) : wpX_predictAll post (ls, ct, 1, bf, bb, bp, bq, a1, a2, a3, a4, a5, a6, a7, a8, a9, a10) p :=
  ⟨2, br_f (by decide) (ht_pb h3 (nm_r (Int32.zero_add _) (nm_r (e' := 1) (by decide) (br_t (by decide) h))))⟩
theorem ht_pr1 {post : Int32 → Prop} {p : Int32} (h3 : a3 0 = -6) (h : post (a5 0)) : wpX_predict post (ls, ct, 1, bf, bb, bp, bq, a1, a2, a3, a4, a5, a6, a7, a8, a9, a10) p := by
  unfold wpX_predict
  exact ht_pa1 h3 h
/-! ===== histograms ===== -/
theorem ht_clear {post : St2 → Prop} (H : ∀ b9 b10 : Nat → Int32, (∀ j, j < 24 → b9 j = 0) → (∀ j, j < 24 → b10 j = 0) → post (ls, ct, tr, bf, bb, bp, bq, a1, a2, a3, a4, a5, a6, a7, a8, b9, b10)) : wpX_clearCells post (ls, ct, tr, bf, bb, bp, bq, a1, a2, a3, a4, a5, a6, a7, a8, a9, a10) 0 :=
  pk_loop (fun n i (s : (Nat → Int32) × (Nat → Int32)) => wX_clearCells_2 post 0 ls ct tr bf bb bp bq n (nI i) a1 a2 a3 a4 a5 a6 a7 a8 s.1 s.2) (fun i s => (∀ j, j < i → s.1 j = 0) ∧ (∀ j, j < i → s.2 j = 0)) 24 0 (a9, a10) (by omega) ⟨lt_0, lt_0⟩
    (fun n s h => pk_le 24 24 (fun _ => H s.1 s.2 h.1 h.2) (fun z => absurd z (by omega)))
    (fun n i s hi h hw => pk_le 24 i (fun z => absurd z (by omega)) (fun _ =>
      ⟨pk_in i 168 (by omega) (ht_m24 _), nm_r (e' := upd s.1 i 0) (by rw [ht_c24 i (by omega)])
        ⟨pk_in i 168 (by omega) (ht_m24 _), nm_r (e' := upd s.2 i 0) (by rw [ht_c24 i (by omega)])
          (nm_r (nI_1 i) (hw (upd s.1 i 0, upd s.2 i 0) ⟨ht_fill h.1, ht_fill h.2⟩))⟩⟩))
theorem ht_add {post : St2 → Prop} {v : Int32} (h7 : a7 0 = v) (hD : ht_D 0 v a9 a10) (H : ∀ b9 b10 : Nat → Int32, ht_C 1 v b9 b10 → post (ls, ct, tr, bf, bb, bp, bq, a1, a2, a3, a4, a5, a6, a7, a8, b9, b10)) : wpX_addRow post (ls, ct, tr, bf, bb, bp, bq, a1, a2, a3, a4, a5, a6, a7, a8, a9, a10) 0 0 := by
  refine pk_loop (fun n i (s : (Nat → Int32) × (Nat → Int32)) => wX_addRow_2 post 0 0 ls ct tr bf bb bp bq n (nI i) a1 a2 a3 a4 a5 a6 a7 a8 s.1 s.2) (fun i s => ht_D i v s.1 s.2) 3 0 (a9, a10) (by omega) hD
    (fun n s h => pk_le 3 3 (fun _ => H s.1 s.2 h.1) (fun z => absurd z (by omega)))
    (fun n i s hi h hw => pk_le 3 i (fun z => absurd z (by omega)) (fun _ => ⟨pk_in 0 24 (by omega), ?_⟩))
  obtain ⟨x, hx, ex⟩ := pk_andE (a1 0 >>> ((3 * nI i) &&& 31)) (m := 7) 3 (by decide)
  have hx8 : x < 8 := hx
  have ei : (0 : Int32) * 24 + nI i * 8 + ((a1 0 >>> ((3 * nI i) &&& 31)) &&& 7) = nI (i * 8 + x) := by
    rw [ex]
    exact ht_ix i x
  have hc : (nI (i * 8 + x)).toNatClampNeg = i * 8 + x := nI_clamp (by omega)
  have hm := ht_Ds h hi hx8
  exact nm_r (e' := nI (i * 8 + x)) ei ⟨pk_in (i * 8 + x) 168 (by omega), pk_in (i * 8 + x) 168 (by omega),
    nm_r (e' := upd s.1 (i * 8 + x) (s.1 (i * 8 + x) + 1)) (by rw [hc]) ⟨pk_in (i * 8 + x) 168 (by omega), pk_in 0 24 (by omega), pk_in (i * 8 + x) 168 (by omega),
      nm_r (e' := upd s.2 (i * 8 + x) (s.2 (i * 8 + x) + v)) (by rw [hc, sb_cl0, h7]) (nm_r (nI_1 i) (hw (_, _) hm))⟩⟩
theorem ht_from {post : St2 → Prop} {c : Nat} {v : Int32} (hc : c ≤ 1) (h7 : c = 1 → a7 0 = v) (h8 : c = 1 → a8 0 = 0) (h0 : c = 0 → v = 0)
    (H : ∀ b9 b10 : Nat → Int32, ht_C c v b9 b10 → post (ls, nI c, tr, bf, bb, bp, bq, a1, a2, a3, a4, a5, a6, a7, a8, b9, b10)) : wpX_fromRows post (ls, nI c, tr, bf, bb, bp, bq, a1, a2, a3, a4, a5, a6, a7, a8, a9, a10) 0 := by
  unfold wpX_fromRows
  refine ht_clear (fun b9 b10 h9 h10 => ?_)
  rcases (show c = 0 ∨ c = 1 by omega) with e | e
  · subst e
    have hv := h0 rfl
    subst hv
    exact ⟨1, br_t (by decide) (H b9 b10 (ht_C0 h9 h10))⟩
  · subst e
    exact ⟨2, br_f (by decide) ⟨pk_in 0 24 (by omega), br_t (h8 rfl) (ht_add (h7 rfl) (ht_D0 h9 h10) (fun d9 d10 hC => nm_r (e' := 1) (by decide) (br_t (by decide) (H d9 d10 hC))))⟩⟩
theorem ht_rows {post : Int32 → Prop} {y : Int32} {x : Nat} (hx : x < 8) (hR : ht_R y x a9 0) (h : post y) : wpX_rowsIn post (ls, ct, tr, bf, bb, bp, bq, a1, a2, a3, a4, a5, a6, a7, a8, a9, a10) 0 :=
  pk_loop (fun n i (s : Int32) => wX_rowsIn_4 post 0 ls ct tr bf bb bp bq a1 a2 a3 a4 a5 a6 a7 a8 a9 a10 n s (nI i)) (fun i s => s = ht_P y x i) 8 0 0 (by omega) (ht_P0 y x).symm
    (fun n s hs => pk_le 8 8 (fun _ => show post s by rw [hs, ht_P8 hx]; exact h) (fun z => absurd z (by omega)))
    (fun n i s hi hs hw => pk_le 8 i (fun z => absurd z (by omega)) (fun _ =>
      ⟨pk_in i 168 (by omega) (ht_m24 _), nm_r (e' := ht_P y x (i + 1)) (by rw [ht_c24 i (by omega), hs]; exact ht_Ps0 hR hi) (nm_r (nI_1 i) (hw _ rfl))⟩))
theorem ht_sum {post : Int32 → Prop} {y : Int32} {x : Nat} (hx : x < 8) (hR : ht_R y x a10 0) (h : post y) : wpX_sumIn post (ls, ct, tr, bf, bb, bp, bq, a1, a2, a3, a4, a5, a6, a7, a8, a9, a10) 0 :=
  pk_loop (fun n i (s : Int32) => wX_sumIn_4 post 0 ls ct tr bf bb bp bq a1 a2 a3 a4 a5 a6 a7 a8 a9 a10 n s (nI i)) (fun i s => s = ht_P y x i) 8 0 0 (by omega) (ht_P0 y x).symm
    (fun n s hs => pk_le 8 8 (fun _ => show post s by rw [hs, ht_P8 hx]; exact h) (fun z => absurd z (by omega)))
    (fun n i s hi hs hw => pk_le 8 i (fun z => absurd z (by omega)) (fun _ =>
      ⟨pk_in i 168 (by omega) (ht_m24 _), nm_r (e' := ht_P y x (i + 1)) (by rw [ht_c24 i (by omega), hs]; exact ht_Ps0 hR hi) (nm_r (nI_1 i) (hw _ rfl))⟩))
/-! ===== splits: none is found ===== -/
theorem ht_try {post : St2 → Prop} {p0 p1 : Int32} {nl sl n s : Int64} (hl : 0 < ls.toInt64) (hn : nl = 0 ∨ nl = n) (H : post (ls, ct, tr, bf, bb, bp, bq, a1, a2, a3, a4, a5, a6, a7, a8, a9, a10)) : wpX_tryLeft post (ls, ct, tr, bf, bb, bp, bq, a1, a2, a3, a4, a5, a6, a7, a8, a9, a10) p0 p1 nl sl n s := by
  unfold wpX_tryLeft
  intro x11 e11 x13 e13
  refine br_c (fun _ => H) (fun g => br_f (fun z => ?_) H)
  rcases hn with e | e
  · rw [e] at g
    exact g hl
  · rw [e, Int64.sub_self] at e11
    rw [e11] at z
    exact absurd hl (Int64.not_lt.mpr z)
theorem ht_f23 {post : St2 → Prop} {J : Int32 → Int32 → Int32 → Int32 → Int32 → Int32 → Int64 → Int64 → (Nat → Int32) → (Nat → Int32) → (Nat → Int32) → (Nat → Int32) → (Nat → Int32) → (Nat → Int32) → (Nat → Int32) → (Nat → Int32) → (Nat → Int32) → (Nat → Int32) → Prop} {c f x : Nat} {v : Int32} (hl : 0 < ls.toInt64) (hf : f < 3) (hR : ht_R (nI c) x a9 f) (H : J (nI (f + 1)) ls ct tr bf bb bp bq a1 a2 a3 a4 a5 a6 a7 a8 a9 a10) :
    ∃ n, wX_findSplit_23 post J 0 (nI c) v (nI f) n 0 0 0 ls ct tr bf bb bp bq a1 a2 a3 a4 a5 a6 a7 a8 a9 a10 :=
  pk_loop (fun n i (s : Int32 × Int32) => wX_findSplit_23 post J 0 (nI c) v (nI f) n s.1 s.2 (nI i) ls ct tr bf bb bp bq a1 a2 a3 a4 a5 a6 a7 a8 a9 a10) (fun i s => s.1 = ht_P (nI c) x i) 7 0 (0, 0) (by omega) (ht_P0 (nI c) x).symm
    (fun n s hs => pk_le 7 7 (fun _ => nm_r (nI_1 f) H) (fun z => absurd z (by omega)))
    (fun n i s hi hs hw => pk_le 7 i (fun z => absurd z (by omega)) (fun _ =>
      ⟨pk_in (f * 8 + i) 168 (by omega) (ht_ix f i), nm_r (e' := ht_P (nI c) x (i + 1)) (by rw [ht_cx f i (by omega), hs]; exact ht_Ps hR (by omega))
        ⟨pk_in (f * 8 + i) 168 (by omega) (ht_ix f i), nm_e (ht_try hl (ht_Por (nI c) x (i + 1)) (nm_r (nI_1 i) (hw (_, _) rfl)))⟩⟩))
theorem ht_f8 {post : St2 → Prop} {c : Nat} {v w : Int32} (hl : 0 < ls.toInt64) (hC : ht_C c w a9 a10) (H : post (ls, ct, tr, bf, bb, bp, bq, a1, a2, a3, a4, a5, a6, a7, a8, a9, a10)) : ∃ n, wX_findSplit_8 post 0 (nI c) v n 0 ls ct tr bf bb bp bq a1 a2 a3 a4 a5 a6 a7 a8 a9 a10 :=
  pk_loop (σ := Unit) (fun n i _ => wX_findSplit_8 post 0 (nI c) v n (nI i) ls ct tr bf bb bp bq a1 a2 a3 a4 a5 a6 a7 a8 a9 a10) (fun _ _ => True) 3 0 () (by omega) trivial
    (fun n _ _ => pk_le 3 3 (fun _ => H) (fun z => absurd z (by omega)))
    (fun n i _ hi _ hw => pk_le 3 i (fun z => absurd z (by omega)) (fun _ => Exists.elim (hC i hi) (fun x k => ht_f23 hl hi k.2.1 (hw () trivial))))
theorem ht_find {post : St2 → Prop} {c : Nat} {v w : Int32} (hl : 0 < ls.toInt64) (hC : ht_C c w a9 a10) (H : post (ls, ct, tr, -1, bb, bp, bq, a1, a2, a3, a4, a5, a6, a7, a8, a9, a10)) : wpX_findSplit post (ls, ct, tr, bf, bb, bp, bq, a1, a2, a3, a4, a5, a6, a7, a8, a9, a10) 0 (nI c) v := by
  unfold wpX_findSplit
  exact ht_f8 hl hC H
theorem ht_leaf {post : St2 → Prop} {c : Nat} {v : Int32} (hc : c ≤ 1) (h0 : c = 0 → v = 0) (H : post (ls, ct, tr, bf, bb, bp, bq, a1, a2, upd a3 0 (-6), a4, upd a5 0 v, a6, a7, a8, a9, a10)) : wpX_makeLeaf post (ls, ct, tr, bf, bb, bp, bq, a1, a2, a3, a4, a5, a6, a7, a8, a9, a10) 0 (nI c) v := by
  refine ⟨pk_in 0 28 (by omega), nm_r (e' := upd a3 0 (-6)) rfl ?_⟩
  rcases (show c = 0 ∨ c = 1 by omega) with e | e
  · subst e
    exact br_t (by decide) ⟨pk_in 0 28 (by omega), nm_r (e' := upd a5 0 v) (by rw [h0 rfl]; rfl) H⟩
  · subst e
    exact br_f (by decide) ⟨by decide, pk_in 0 28 (by omega), nm_r (e' := upd a5 0 v) (by rw [show nI 1 = 1 from rfl, Int32.div_one]; rfl) H⟩
theorem ht_split {post : Int32 → St2 → Prop} {c : Nat} {v : Int32} (hc : c ≤ 1) (h0 : c = 0 → v = 0) (hl : 0 < ls.toInt64) (hC : ht_C c v a9 a10)
    (H : post 0 (ls, ct, tr, -1, bb, bp, bq, a1, a2, upd a3 0 (-6), a4, upd a5 0 v, upd a6 0 (nI c), a7, a8, a9, a10)) : wpX_splitNode post (ls, ct, tr, bf, bb, bp, bq, a1, a2, a3, a4, a5, a6, a7, a8, a9, a10) 0 0 := by
  obtain ⟨x, hx, k9, k10⟩ := hC 0 (by omega)
  unfold wpX_splitNode
  refine nm_r (e' := 0) (by decide) (ht_rows hx k9 (ht_sum hx k10 ⟨pk_in 0 28 (by omega), nm_r (e' := upd a6 0 (nI c)) rfl (br_f (by decide) (ht_find hl hC ?_))⟩))
  exact nm_e (br_t (by decide) (ht_leaf hc h0 H))
theorem ht_grow {post : Int32 → St2 → Prop} {c : Nat} {v : Int32} (hc : c ≤ 1) (h0 : c = 0 → v = 0) (hl : 0 < ls.toInt64) (hC : ht_C c v a9 a10)
    (H : post 1 (ls, ct, tr, -1, bb, bp, bq, a1, a2, upd a3 0 (-6), a4, upd a5 0 v, upd a6 0 (nI c), a7, a8, a9, a10)) : wpX_grow post (ls, ct, tr, bf, bb, bp, bq, a1, a2, a3, a4, a5, a6, a7, a8, a9, a10) 0 0 := by
  unfold wpX_grow
  exact ht_split hc h0 hl hC (br_t rfl (br_t rfl H))
/-! ===== training ===== -/
theorem ht_110b {post : Int32 → St2 → Prop} (h3 : ∀ j, j < 7 → a3 j < 0) (H : post 1 (ls, ct, 1, bf, bb, bp, bq, a1, a2, a3, a4, a5, a6, a7, a8, a9, a10)) : ∃ n, wX_train_110 post 0 n 1 1 ls ct 0 bf bb bp bq a1 a2 a3 a4 a5 a6 a7 a8 a9 a10 :=
  pk_loop (σ := Unit) (fun n i _ => wX_train_110 post 0 n 1 (nI i) ls ct 0 bf bb bp bq a1 a2 a3 a4 a5 a6 a7 a8 a9 a10) (fun i _ => 1 ≤ i) 7 1 () (by omega) (by omega)
    (fun n _ _ => pk_le 7 7 (fun _ => nm_r (e' := 1) (by decide) H) (fun z => absurd z (by omega)))
    (fun n i _ hi h1 hw => pk_le 7 i (fun z => absurd z (by omega)) (fun _ => br_f (nI_ne0 (by omega) (by omega))
      ⟨by decide, pk_in ((i - 1) / 2) 28 (by omega) (ht_half i h1 (by omega)),
        br_t (by rw [ht_half i h1 (by omega), nI_clamp (show (i - 1) / 2 < 2 ^ 31 by omega)]; exact h3 _ (by omega)) (br_t rfl (nm_r (nI_1 i) (hw () (by omega))))⟩))
theorem ht_110 {post : Int32 → St2 → Prop} {c : Nat} {v : Int32} (hc : c ≤ 1) (h0 : c = 0 → v = 0) (hl : 0 < ls.toInt64) (hC : ht_C c v a9 a10) (h3 : ∀ j, j < 7 → a3 j = -7)
    (H : post 1 (ls, ct, 1, -1, bb, bp, bq, a1, a2, upd a3 0 (-6), a4, upd a5 0 v, upd a6 0 (nI c), a7, a8, a9, a10)) : ∃ n, wX_train_110 post 0 n 0 0 ls ct 0 bf bb bp bq a1 a2 a3 a4 a5 a6 a7 a8 a9 a10 := by
  have h3' : ∀ j, j < 7 → upd a3 0 (-6) j < 0 := by
    intro j hj
    by_cases e : j = 0
    · rw [e, pk_us]
      decide
    · rw [pk_un e, h3 j hj]
      decide
  obtain ⟨n, hn⟩ := ht_110b h3' H
  exact ⟨n + 1, br_f (by decide) (br_t rfl (br_f (by decide) (ht_grow hc h0 hl hC (nm_r (e' := 1) (by decide) (nm_r (e' := 1) (by decide) hn)))))⟩
theorem ht_52 {post : Int32 → St2 → Prop} {c : Nat} {v : Int32} (hc : c ≤ 1) (h0 : c = 0 → v = 0) (hl : 0 < ls.toInt64) (h7 : c = 1 → a7 0 = v) (h8 : c = 1 → a8 0 = 0)
    (H : ∀ b3 b5 b6 b9 b10 : Nat → Int32, b3 0 = -6 → (∀ j, 1 ≤ j → j < 7 → b3 j = -7) → b5 0 = v → post 1 (ls, nI c, 1, -1, bb, bp, bq, a1, a2, b3, a4, b5, b6, a7, a8, b9, b10)) :
    ∃ n, wX_train_52 post 0 ls (nI c) 0 bf bb bp bq n 0 a1 a2 a3 a4 a5 a6 a7 a8 a9 a10 := by
  refine pk_loop (fun n i (s : (Nat → Int32) × (Nat → Int32) × (Nat → Int32)) => wX_train_52 post 0 ls (nI c) 0 bf bb bp bq n (nI i) a1 a2 s.1 a4 s.2.1 s.2.2 a7 a8 a9 a10) (fun i s => ∀ j, j < i → s.1 j = -7) 7 0 (a3, a5, a6) (by omega) lt_0
    (fun n s h => pk_le 7 7 (fun _ => ?_) (fun z => absurd z (by omega)))
    (fun n i s hi h hw => pk_le 7 i (fun z => absurd z (by omega)) (fun _ =>
      ⟨pk_in i 28 (by omega) (ht_m7 _), nm_r (e' := upd s.1 i (-7)) (by rw [ht_c7 i (by omega)])
        ⟨pk_in i 28 (by omega) (ht_m7 _), nm_e ⟨pk_in i 28 (by omega) (ht_m7 _), nm_e (nm_r (nI_1 i) (hw (_, _, _) (ht_fill h)))⟩⟩⟩))
  refine ht_from hc h7 h8 h0 (fun b9 b10 hC => ht_110 hc h0 hl hC h (H _ _ _ _ _ pk_us (fun j h1 h2 => ?_) pk_us))
  rw [pk_un (show j ≠ 0 by omega)]
  exact h j h2
theorem ht_train {post : Int32 → St2 → Prop} {c : Nat} {v : Int32} (hc : c ≤ 1) (h0 : c = 0 → v = 0) (hl : 0 < ls.toInt64) (h1 : c = 1 → a2 0 = v)
    (H : ∀ b3 b5 b6 b7 b8 b9 b10 : Nat → Int32, b3 0 = -6 → (∀ j, 1 ≤ j → j < 7 → b3 j = -7) → b5 0 = v → post 1 (ls, nI c, 1, -1, bb, bp, bq, a1, a2, b3, a4, b5, b6, b7, b8, b9, b10)) :
    wpX_train post (ls, nI c, 0, bf, bb, bp, bq, a1, a2, a3, a4, a5, a6, a7, a8, a9, a10) := by
  refine br_t (by decide) ?_
  rcases (show c = 0 ∨ c = 1 by omega) with e | e
  · subst e
    exact ⟨1, br_t (by decide) (ht_52 hc h0 hl (fun z => absurd z (by omega)) (fun z => absurd z (by omega)) (fun b3 b5 b6 b9 b10 => H b3 b5 b6 a7 a8 b9 b10))⟩
  · subst e
    have hr : a2 0 - 0 = v := by rw [Int32.sub_zero, h1 rfl]
    exact ⟨2, br_f (by decide) ⟨pk_in 0 24 (by omega), ht_pa0 ⟨pk_in 0 24 (by omega), pk_in 0 24 (by omega), nm_r (e' := upd a7 0 v) (by rw [sb_cl0, hr])
      ⟨pk_in 0 24 (by omega), nm_r (e' := upd a8 0 0) rfl (nm_r (e' := 1) (by decide) (br_t (by decide)
        (ht_52 hc h0 hl (fun _ => pk_us) (fun _ => pk_us) (fun b3 b5 b6 b9 b10 => H b3 b5 b6 _ _ b9 b10))))⟩⟩⟩⟩
end
end
section
section
variable {ls ct tr bf bb : Int32} {bp bq : Int64} {a1 a2 a3 a4 a5 a6 a7 a8 a9 a10 : Nat → Int32}
theorem ht_feat {post : Int32 → Prop} {x3 x4 : Int32} (h3 : a3 0 = -6) (h37 : ∀ j, 1 ≤ j → j < 7 → a3 j = -7)
    (H1 : (¬ x3 = 0 ∨ x4 < 0 ∨ ¬ x4 ≤ 6) → post (-5)) (H2 : x3 = 0 → x4 = 0 → post (-6)) (H3 : x3 = 0 → ¬ x4 < 0 → x4 ≤ 6 → ¬ x4 = 0 → post (-7)) :
    wpX_feature post (ls, ct, 1, bf, bb, bp, bq, a1, a2, a3, a4, a5, a6, a7, a8, a9, a10) x3 x4 := by
  unfold wpX_feature
  rcases pk_ix x3 (n := 1) (by decide) with g | g | ⟨j, hj, rfl⟩
  · refine br_t g (br_f (by decide) (H1 (Or.inl (fun e => ?_))))
    rw [e] at g
    exact absurd g (by decide)
  · have n3 : ¬ x3 = 0 := by
      intro e
      rw [e] at g
      exact absurd g (by decide)
    exact br_c (fun _ => br_f (by decide) (H1 (Or.inl n3))) (fun _ => br_t g (br_f (by decide) (H1 (Or.inl n3))))
  · have ej : j = 0 := by omega
    subst ej
    rcases pk_ix x4 (n := 7) (by decide) with g | g | ⟨k, hk, rfl⟩
    · exact br_f (by decide) (br_f (by decide) (br_t g (br_f (by decide) (H1 (Or.inr (Or.inl g))))))
    · have n6 : ¬ x4 ≤ 6 := fun e => absurd (Int32.le_trans g e) (by decide)
      have n7 : ¬ x4 < 7 := Int32.not_lt.mpr g
      exact br_f (by decide) (br_f (by decide) (br_c (fun z => br_f (by decide) (H1 (Or.inr (Or.inl z)))) (fun _ => br_f n7 (br_f (by decide) (H1 (Or.inr (Or.inr n6)))))))
    · refine br_f (by decide) (br_f (by decide) (br_f (nI_pos (by omega)) (br_t (nI_lt (b := 7) hk (by decide)) (br_t rfl ⟨pk_in k 28 (by omega) (ht_m7 _), ?_⟩))))
      show post (a3 ((0 : Int32) * 7 + nI k).toNatClampNeg)
      rw [ht_c7 k (by omega)]
      by_cases e : k = 0
      · subst e
        rw [h3]
        exact H2 rfl rfl
      · rw [h37 k (by omega) hk]
        exact H3 rfl (nI_pos (by omega)) (nI_le (b := 6) (by omega) (by decide)) (nI_ne0 (by omega) (by omega))
/-! ===== the law, from its last check to its first ===== -/
theorem ht_179 {post : Int32 → St0 → Prop} {mc ms kc ks c : Nat} {x2 x3 x4 v z0 z1 : Int32} (hp : post 1 ()) (hl : 0 < ls.toInt64) (hc : c ≤ 1) (h0 : c = 0 → v = 0) (h1 : c = 1 → a2 0 = v) (hz : z1 = z0) :
    wL_lawOf_179 post mc ms x2 x3 x4 v z0 z1 kc ks ls (nI c) 0 bf bb bp bq a1 a2 a3 a4 a5 a6 a7 a8 a9 a10 := by
  unfold wL_lawOf_179
  refine br_t hz (ht_train hc h0 hl h1 (fun b3 b5 b6 b7 b8 b9 b10 k3 k37 k5 => br_t rfl (ht_pr1 k3 (br_t k5 (ht_feat k3 k37 (fun g => ?_) (fun e3 e4 => ?_) (fun e3 n4 l6 ne => ?_))))))
  · refine br_c (fun e3 => br_c (fun _ => br_t rfl hp) (fun n4 => br_f (fun l6 => ?_) (br_t rfl hp))) (fun _ => br_t rfl hp)
    rcases g with g | g | g
    · exact g e3
    · exact n4 g
    · exact g l6
  · subst e4
    exact br_t e3 (br_f (by decide) (br_t (by decide) (br_t rfl (br_t rfl hp))))
  · exact br_t e3 (br_f n4 (br_t l6 (br_f ne (br_t rfl hp))))
theorem ht_160 {post : Int32 → St0 → Prop} {mc ms kc ks c : Nat} {x2 x3 x4 x7 v : Int32} (hp : post 1 ()) (hl : 0 < ls.toInt64) (hc : c ≤ 1) (h0 : c = 0 → v = 0) (h1 : c = 1 → a2 0 = v)
    (hx : (x7 = 1 ∧ x3 = 0 ∧ c = 1) ∨ (x7 = 0 ∧ ¬ (x3 = 0 ∧ c = 1))) :
    wL_lawOf_160 post mc ms x2 x3 x4 x7 v kc ks ls (nI c) 0 bf bb bp bq a1 a2 a3 a4 a5 a6 a7 a8 a9 a10 := by
  unfold wL_lawOf_160
  rcases hx with ⟨e7, e3, ec⟩ | ⟨e7, hn⟩
  · subst e7 e3 ec
    have hr : a2 (0 : Int32).toNatClampNeg - 0 = v := by rw [Int32.sub_zero, sb_cl0, h1 rfl]
    exact br_f (by decide) (br_t (by decide) ⟨pk_in 0 24 (by omega), ht_pa0 ⟨pk_in 0 24 (by omega), br_f (by decide) (ht_179 hp hl hc h0 h1 hr)⟩⟩)
  · subst e7
    refine br_c (fun _ => br_t rfl (ht_179 hp hl hc h0 h1 rfl)) (fun g => br_f (fun z => ?_) (br_t rfl (ht_179 hp hl hc h0 h1 rfl)))
    obtain ⟨j, hj, rfl⟩ := nI_of g
    have z' := (nI_ltI hj (by omega)).mp z
    have ej : j = 0 := by omega
    subst ej
    exact hn ⟨rfl, by omega⟩
theorem ht_99 {post : Int32 → St0 → Prop} {mc ms kc ks c : Nat} {x2 x3 x4 x6 x7 z0 : Int32} (hp : post 1 ()) (hl : 0 < ls.toInt64)
    (h6 : (x6 = 1 ∧ c = 1 ∧ a2 0 = x2) ∨ (x6 = 0 ∧ c = 0))
    (hx : (x7 = 1 ∧ x3 = 0 ∧ c = 1) ∨ (x7 = 0 ∧ ¬ (x3 = 0 ∧ c = 1)))
    (hz : (z0 = 1 ∧ ¬ x4 < -50 ∧ x4 ≤ 50) ∨ (z0 = 0 ∧ (x4 < -50 ∨ ¬ x4 ≤ 50))) :
    wL_lawOf_99 post mc ms x2 x3 x4 x6 x7 z0 kc ks ls (nI c) 0 bf bb bp bq a1 a2 a3 a4 a5 a6 a7 a8 a9 a10 := by
  unfold wL_lawOf_99
  have hx' := hx
  rcases hx with ⟨e7, e3, ec⟩ | ⟨e7, hn⟩
  · subst ec
    rcases h6 with ⟨e6, _, e2⟩ | ⟨_, ec⟩
    · subst e7 e3 e6
      rcases hz with ⟨ez, g1, g2⟩ | ⟨ez, g⟩
      · subst ez
        exact br_f (by decide) (br_t (by decide) (br_f g1 (br_t g2 ⟨pk_in 0 24 (by omega), nm_r (e' := x2) e2 ⟨pk_in 0 24 (by omega), nm_r (e' := upd a2 0 x4) rfl
          (br_f (by decide) (br_f (by decide) (br_t rfl (br_f (by decide) (br_f (by decide) (br_f (by decide) (ht_160 hp hl (by omega) (fun z => absurd z (by omega)) (fun _ => pk_us) hx')))))))⟩⟩)))
      · subst ez
        have X : wL_lawOf_130 post mc ms x2 0 x4 1 1 0 (-2) (-2) kc ks ls (nI 1) 0 bf bb bp bq a1 a2 a3 a4 a5 a6 a7 a8 a9 a10 :=
          br_t rfl (br_f (by decide) (br_f (by decide) (br_t rfl (ht_160 hp hl (by omega) (fun z => absurd z (by omega)) (fun _ => e2) hx'))))
        exact br_f (by decide) (br_t (by decide) (br_c (fun _ => br_f (by decide) (br_t rfl X)) (fun n => br_f (g.resolve_left n) (br_f (by decide) (br_t rfl X)))))
    · exact absurd ec (by omega)
  · subst e7
    have X : wL_lawOf_130 post mc ms x2 x3 x4 x6 0 z0 (-5) (-5) kc ks ls (nI c) 0 bf bb bp bq a1 a2 a3 a4 a5 a6 a7 a8 a9 a10 := by
      rcases h6 with ⟨e6, ec, e2⟩ | ⟨e6, ec⟩
      · subst e6 ec
        exact br_t rfl (br_f (by decide) (br_t rfl (ht_160 hp hl (by omega) (fun z => absurd z (by omega)) (fun _ => e2) hx')))
      · subst e6 ec
        exact br_t rfl (br_t rfl (ht_160 hp hl (by omega) (fun _ => rfl) (fun z => absurd z (by omega)) hx'))
    refine br_c (fun _ => br_t rfl X) (fun g => br_f (fun z => ?_) (br_t rfl X))
    obtain ⟨j, hj, rfl⟩ := nI_of g
    have hc : c ≤ 1 := by
      rcases h6 with ⟨_, ec, _⟩ | ⟨_, ec⟩ <;> omega
    have z' := (nI_ltI hj (by omega)).mp z
    have ej : j = 0 := by omega
    subst ej
    exact hn ⟨rfl, by omega⟩
theorem ht_78 {post : Int32 → St0 → Prop} {mc ms kc ks c : Nat} {x2 x3 x4 x6 x7 : Int32} (hp : post 1 ()) (hl : 0 < ls.toInt64)
    (h6 : (x6 = 1 ∧ c = 1 ∧ a2 0 = x2) ∨ (x6 = 0 ∧ c = 0))
    (hx : (x7 = 1 ∧ x3 = 0 ∧ c = 1) ∨ (x7 = 0 ∧ ¬ (x3 = 0 ∧ c = 1))) :
    wL_lawOf_78 post mc ms x2 x3 x4 x6 x7 kc ks ls (nI c) 0 bf bb bp bq a1 a2 a3 a4 a5 a6 a7 a8 a9 a10 := by
  unfold wL_lawOf_78 wL_lawOf_98
  exact br_c (fun g => ht_99 hp hl h6 hx (Or.inr ⟨rfl, Or.inl g⟩)) (fun g => br_c (fun g2 => ht_99 hp hl h6 hx (Or.inr ⟨rfl, Or.inr (Int32.not_le.mpr g2)⟩)) (fun g2 => ht_99 hp hl h6 hx (Or.inl ⟨rfl, g, Int32.not_lt.mp g2⟩)))
theorem ht_59 {post : Int32 → St0 → Prop} {mc ms kc ks c : Nat} {x2 x3 x4 x6 z0 z1 : Int32} (hp : post 1 ()) (hl : 0 < ls.toInt64)
    (h6 : (x6 = 1 ∧ c = 1 ∧ a2 0 = x2) ∨ (x6 = 0 ∧ c = 0)) (hz : z1 = z0) :
    wL_lawOf_59 post mc ms x2 x3 x4 x6 z0 z1 kc ks ls (nI c) 0 bf bb bp bq a1 a2 a3 a4 a5 a6 a7 a8 a9 a10 := by
  unfold wL_lawOf_59 wL_lawOf_77
  refine br_t hz ?_
  have h6' := h6
  rcases h6 with ⟨e6, ec, e2⟩ | ⟨e6, ec⟩
  · exact br_f (by rw [e6]; decide) (br_c (fun e3 => ht_78 hp hl h6' (Or.inl ⟨rfl, e3, ec⟩)) (fun n3 => ht_78 hp hl h6' (Or.inr ⟨rfl, fun k => n3 k.1⟩)))
  · exact br_t e6 (ht_78 hp hl h6' (Or.inr ⟨rfl, fun k => absurd k.2 (by omega)⟩))
theorem ht_39 {post : Int32 → St0 → Prop} {mc ms kc ks : Nat} {x1 x2 x3 x4 z0 : Int32} (hp : post 1 ()) (hl : 0 < ls.toInt64)
    (hz : (z0 = 1 ∧ ¬ x2 < -50 ∧ x2 ≤ 50) ∨ (z0 = 0 ∧ (x2 < -50 ∨ ¬ x2 ≤ 50))) :
    wL_lawOf_39 post mc ms x1 x2 x3 x4 z0 kc ks ls 0 0 bf bb bp bq a1 a2 a3 a4 a5 a6 a7 a8 a9 a10 := by
  unfold wL_lawOf_39
  rcases hz with ⟨ez, g1, g2⟩ | ⟨ez, g⟩
  · subst ez
    exact br_f g1 (br_t g2 (br_t (by decide) ⟨pk_in 0 24 (by omega), nm_e ⟨pk_in 0 24 (by omega), nm_r (e' := upd a2 0 x2) rfl (nm_r (e' := nI 1) (by decide)
      (br_f (by decide) (ht_59 hp hl (Or.inl ⟨rfl, rfl, pk_us⟩) (by decide))))⟩⟩))
  · subst ez
    have X : wL_lawOf_59 post mc ms x2 x3 x4 0 (-2) (-2) kc ks ls (nI 0) 0 bf bb bp bq a1 a2 a3 a4 a5 a6 a7 a8 a9 a10 := ht_59 hp hl (Or.inr ⟨rfl, rfl⟩) rfl
    exact br_c (fun _ => br_t rfl X) (fun n => br_f (g.resolve_left n) (br_t rfl X))
end
theorem ht_init {post : St2 → Prop} {mc ms : Nat} {p0 : Int32} (h : 10 ≤ mc) (h' : 544 ≤ ms)
    (H : ∀ m : Int32, 0 < m.toInt64 → post (m, 0, 0, 0, 0, 0, 0, (fun _ => 0), (fun _ => 0), (fun _ => 0), (fun _ => 0), (fun _ => 0), (fun _ => 0), (fun _ => 0), (fun _ => 0), (fun _ => 0), (fun _ => 0))) :
    wpX_init post mc ms (0, 0, 0, 0, 0, 0, 0) p0 :=
  ⟨by omega, by omega, by omega, by omega, by omega, by omega, by omega, by omega, by omega, by omega, by omega, by omega, by omega, by omega, by omega, by omega, by omega, by omega, by omega, by omega,
    br_c (fun g => br_c (fun _ => H p0 (ht_pos g)) (fun _ => H 12 (by decide))) (fun _ => br_t (by decide) (H 1 (by decide)))⟩
theorem ht_lawOf {post : Int32 → St0 → Prop} {p0 p1 p2 p3 p4 : Int32} (hp : post 1 ()) : wpL_lawOf post 304 4848 () p0 p1 p2 p3 p4 := by
  unfold wpL_lawOf
  refine ⟨by omega, by omega, 303, 4000, by omega, by omega, ht_init (by omega) (by omega) (fun m hm => ?_)⟩
  refine br_t rfl (br_t rfl ?_)
  exact br_c (fun g => ht_39 hp hm (Or.inr ⟨rfl, Or.inl g⟩)) (fun g => br_c (fun g2 => ht_39 hp hm (Or.inr ⟨rfl, Or.inr (Int32.not_le.mpr g2)⟩)) (fun g2 => ht_39 hp hm (Or.inl ⟨rfl, g, Int32.not_lt.mp g2⟩)))
theorem ht_cell {post : Int32 → Prop} {L : Nat} {xs : Nat → Int32} (hL : L ≤ 5) (k : Nat) (hk : k < 5) (H : ∀ x, post x) : wpL_cellAt post L xs () (nI k) :=
  pk_le L k (fun _ => H 0) (fun z => ⟨pk_in k L z, H _⟩)
theorem i_vc (xs : Nat → Int32) (L : Nat) (hL : L ≤ 5) : wpL_law (fun r => r = 1) L xs :=
  ht_cell hL 0 (by omega) (fun _ => ht_cell hL 1 (by omega) (fun _ => ht_cell hL 2 (by omega) (fun _ => ht_cell hL 3 (by omega) (fun _ => ht_cell hL 4 (by omega) (fun _ =>
    ⟨304, 4848, by omega, by omega, ht_lawOf rfl⟩)))))
end
