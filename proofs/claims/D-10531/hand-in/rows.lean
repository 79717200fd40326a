section
/-! ===== NearDocs: one lemma a method, for the states that the law reaches ===== -/
theorem nd_fill {s : Nat → Int32} {i k : Nat} (hk : k = i) (h : ∀ j, j < i → s j = 0) : ∀ j, j < i + 1 → upd s k 0 j = 0 := by
  intro j hj
  rw [hk]
  by_cases e : j = i
  · rw [e, pk_us]
  · rw [pk_un e]
    exact h j (by omega)
theorem nd_and (x : Int32) : (x + 4) &&& 3 = x &&& 3 := by
  rw [pk_and (x + 4) (m := 3) 2 (by decide), pk_and x (m := 3) 2 (by decide)]
  congr 1
  rw [Int32.toBitVec_add, BitVec.toNat_add]
  have h4 : (4 : Int32).toBitVec.toNat = 4 := by decide
  rw [h4]
  omega
/-- the base of document k -/
theorem nd_base (k i : Nat) : 16 * nI k + nI i = nI (16 * k + i) := by
  rw [show (16 : Int32) = nI 16 from rfl, pk_mul, nI_add]
theorem nd_base0 (k : Nat) : 16 * nI k + 0 = nI (16 * k) := nd_base k 0
/-- which documents there are -/
theorem nd_ix (x : Int32) : x < 0 ∨ (¬ x < 0 ∧ 7 < x) ∨ (¬ x < 0 ∧ ¬ 7 < x ∧ ∃ k : Nat, k < 8 ∧ x = nI k) := by
  by_cases h0 : x < 0
  · exact Or.inl h0
  · by_cases h7 : 7 < x
    · exact Or.inr (Or.inl ⟨h0, h7⟩)
    · obtain ⟨j, hj, e⟩ := nI_of h0
      refine Or.inr (Or.inr ⟨h0, h7, j, ?_, e⟩)
      rcases Nat.lt_or_ge j 8 with z | z
      · exact z
      · exact absurd (show (7 : Int32) < x from by rw [e]; exact nI_lt (a := 7) (by omega) hj) h7
theorem nd_isDoc0 {post : Int32 → Prop} {u : St0} {p : Int32} (h : p < 0 ∨ (¬ p < 0 ∧ 7 < p)) (hp : post 0) : wpX_isDoc post u p := by
  rcases h with h | ⟨h, h7⟩
  · exact br_t h hp
  · exact br_f h (br_t h7 hp)
theorem nd_isDoc1 {post : Int32 → Prop} {u : St0} {k : Nat} (hk : k < 8) (hp : post 1) : wpX_isDoc post u (nI k) :=
  br_f (nI_pos (by omega)) (br_f (nI_nlt (a := 7) (by omega) (by omega)) hp)
section
variable {bd be xl yl : Int32} {a1 a2 a3 a4 a5 a6 a7 a8 a9 a10 : Nat → Int32}
/-- write to no document -/
theorem nd_write0 {post : Int32 → St2 → Prop} {u : St2} {p l : Int32} (h : p < 0 ∨ (¬ p < 0 ∧ 7 < p)) (hp : post (-1) u) : wpX_write post u p l := by
  obtain ⟨f1, f2, f3, f4, f5, b1, b2, b3, b4, b5, b6, b7, b8, b9, b10⟩ := u
  unfold wpX_write
  exact nd_isDoc0 h (br_t rfl hp)
/-- write to an empty document -/
theorem nd_write1 {post : Int32 → St2 → Prop} {ql : Int32} {k : Nat} {l : Int32} (hk : k < 8) (h1 : a1 k = 0)
    (hp : post 1 (ql, bd, be, xl, yl, upd a1 k 1, upd a2 (16 * k) (l &&& 3), a3, a4, a5, a6, a7, a8, a9, a10)) :
    wpX_write post (ql, bd, be, xl, yl, a1, a2, a3, a4, a5, a6, a7, a8, a9, a10) (nI k) l := by
  unfold wpX_write
  have hc : (nI k).toNatClampNeg = k := nI_clamp (by omega)
  have hb : (16 * nI k + 0).toNatClampNeg = 16 * k := by rw [nd_base0]; exact nI_clamp (by omega)
  refine nd_isDoc1 hk (br_f (by decide) ⟨pk_in k 8 hk, br_t (by rw [hc, h1]; decide) ⟨pk_in k 8 hk, nm_r (e' := 0) (by rw [hc, h1]) ⟨pk_in (16 * k) 128 (by omega) (nd_base0 k), nm_r (by rw [hb]) (br_t (by decide) ⟨pk_in k 8 hk, nm_r (e' := upd a1 k 1) (by rw [hc]; rfl) hp⟩)⟩⟩⟩)
/-- the first letter of the query -/
theorem nd_type {post : Int32 → St2 → Prop} {l : Int32}
    (hp : post 1 (1, bd, be, xl, yl, a1, a2, a3, upd a4 0 (l &&& 3), a5, a6, a7, a8, a9, a10)) :
    wpX_type post (0, bd, be, xl, yl, a1, a2, a3, a4, a5, a6, a7, a8, a9, a10) l := by
  unfold wpX_type
  exact br_t (by decide) ⟨pk_in 0 8 (by omega), nm_r (e' := upd a4 0 (l &&& 3)) (by rw [sb_cl0]) (br_t (by decide) (nm_r (e' := 1) (by decide) hp))⟩
/-- search: the loop over the document, with a query of one letter -/
theorem nd_s107 {post : St2 → Prop} {k c : Nat} (hk : k < 8) (hc : c < 4) (h6 : a6 c = 1) (h1 : a1 k = 0 ∨ (a1 k = 1 ∧ a2 (16 * k) = nI c))
    (H0 : a1 k = 0 → post (1, 1, 0, xl, yl, a1, a2, a3, a4, a5, a6, a7, a8, a9, a10))
    (H1 : a1 k = 1 → post (1, 0, 1, xl, yl, a1, a2, a3, a4, a5, a6, a7, a8, a9, a10)) :
    wX_search_107 post (nI k) 1 1 1 xl yl a1 a2 a3 a4 a5 a6 a7 a8 a9 a10 2 1 0 1 0 1 0 := by
  have hk' : (nI k).toNatClampNeg = k := nI_clamp (by omega)
  have hb : (16 * nI k + 0).toNatClampNeg = 16 * k := by rw [nd_base0]; exact nI_clamp (by omega)
  rcases h1 with h1 | ⟨h1, h2⟩
  · exact ⟨pk_in k 8 hk, br_t (by rw [hk', h1]; decide) (H0 h1)⟩
  · refine ⟨pk_in k 8 hk, br_f (by rw [hk', h1]; decide) ⟨pk_in (16 * k) 128 (by omega) (nd_base0 k), by rw [hb, h2]; exact vp_in_nI hc (by omega), nm_r (e' := 1) (by rw [hb, h2, nI_clamp (by omega), h6]) (nm_r (e' := 1) (by decide) (nm_r (e' := 3) (by decide) (nm_r (e' := 0) (by decide) (nm_r (e' := 1) (by decide) (br_t (by decide) (br_f (by decide) ?_))))))⟩⟩
    refine nm_r (e' := 0) (by decide) (nm_r (e' := 0) (by decide) (nm_r (e' := 2) (by decide) (nm_r (e' := 0) (by decide) (nm_r (e' := 0) (by decide) (br_f (by decide) (nm_r (e' := 1) (by decide) (nm_r (e' := 1) (by decide) ?_)))))))
    exact ⟨pk_in k 8 hk, br_t (by rw [hk', h1]; decide) (H1 h1)⟩
/-- search: the loop over the query of one letter, and what follows -/
theorem nd_s22 {post : St2 → Prop} {k c : Nat} (hk : k < 8) (hc : c < 4) (h4 : a4 0 = nI c) (h6 : ∀ j, j < 4 → a6 j = 0) (h1 : a1 k = 0 ∨ (a1 k = 1 ∧ a2 (16 * k) = nI c))
    (H0 : a1 k = 0 → ∀ m, post (1, 1, 0, xl, yl, a1, a2, a3, a4, a5, m, a7, a8, a9, a10))
    (H1 : a1 k = 1 → ∀ m, post (1, 0, 1, xl, yl, a1, a2, a3, a4, a5, m, a7, a8, a9, a10)) :
    wX_search_22 post (nI k) 1 bd be xl yl 2 0 a1 a2 a3 a4 a5 a6 a7 a8 a9 a10 := by
  have hi : vp_in (a4 (0 : Int32).toNatClampNeg) 4 := by
    rw [sb_cl0, h4]
    exact vp_in_nI hc (by omega)
  have hn : (a4 (0 : Int32).toNatClampNeg).toNatClampNeg = c := by
    rw [sb_cl0, h4]
    exact nI_clamp (by omega)
  refine br_f (by decide) ⟨pk_in 0 8 (by omega), hi, hi, nm_r (e' := upd a6 c 1) (by rw [hn, h6 c hc]; rfl) (nm_r (e' := 1) (by decide) ?_)⟩
  refine br_t (by decide) (br_f (by decide) (nm_r (e' := 1) (by decide) (nm_r (e' := 1) (by decide) ⟨2, ?_⟩)))
  exact nd_s107 hk hc pk_us h1 (fun z => H0 z _) (fun z => H1 z _)
/-- search in document k -/
theorem nd_search {post : St2 → Prop} {k c : Nat} (hk : k < 8) (hc : c < 4) (h4 : a4 0 = nI c) (h1 : a1 k = 0 ∨ (a1 k = 1 ∧ a2 (16 * k) = nI c))
    (H0 : a1 k = 0 → ∀ m, post (1, 1, 0, xl, yl, a1, a2, a3, a4, a5, m, a7, a8, a9, a10))
    (H1 : a1 k = 1 → ∀ m, post (1, 0, 1, xl, yl, a1, a2, a3, a4, a5, m, a7, a8, a9, a10)) :
    wpX_search post (1, bd, be, xl, yl, a1, a2, a3, a4, a5, a6, a7, a8, a9, a10) (nI k) := by
  unfold wpX_search
  exact pk_loop (fun n i s => wX_search_2 post (nI k) 1 bd be xl yl n (nI i) a1 a2 a3 a4 a5 s a7 a8 a9 a10) (fun i s => ∀ j, j < i → s j = 0) 4 0 a6 (by omega) (fun j hj => absurd hj (by omega))
    (fun n s h => pk_le 4 4 (fun _ => ⟨2, nd_s22 hk hc h4 h h1 H0 H1⟩) (fun z => absurd z (by omega)))
    (fun n i s hi h hw => pk_le 4 i (fun z => absurd z (by omega)) (fun _ => ⟨pk_in i 4 hi, nm_e (nm_r (nI_1 i) (hw _ (nd_fill (nI_clamp (by omega)) h)))⟩))
theorem nd_distance0 {post : Int32 → St2 → Prop} {u : St2} {p : Int32} (h : p < 0 ∨ (¬ p < 0 ∧ 7 < p)) (hp : post (-1) u) : wpX_distance post u p := by
  obtain ⟨f1, f2, f3, f4, f5, b1, b2, b3, b4, b5, b6, b7, b8, b9, b10⟩ := u
  unfold wpX_distance
  exact nd_isDoc0 h (br_t rfl hp)
theorem nd_end0 {post : Int32 → St2 → Prop} {u : St2} {p : Int32} (h : p < 0 ∨ (¬ p < 0 ∧ 7 < p)) (hp : post (-1) u) : wpX_end post u p := by
  obtain ⟨f1, f2, f3, f4, f5, b1, b2, b3, b4, b5, b6, b7, b8, b9, b10⟩ := u
  unfold wpX_end
  exact nd_isDoc0 h (br_t rfl hp)
theorem nd_distance1 {post : Int32 → St2 → Prop} {k c : Nat} (hk : k < 8) (hc : c < 4) (h4 : a4 0 = nI c) (h1 : a1 k = 0 ∨ (a1 k = 1 ∧ a2 (16 * k) = nI c))
    (H0 : a1 k = 0 → ∀ m, post 1 (1, 1, 0, xl, yl, a1, a2, a3, a4, a5, m, a7, a8, a9, a10))
    (H1 : a1 k = 1 → ∀ m, post 0 (1, 0, 1, xl, yl, a1, a2, a3, a4, a5, m, a7, a8, a9, a10)) :
    wpX_distance post (1, bd, be, xl, yl, a1, a2, a3, a4, a5, a6, a7, a8, a9, a10) (nI k) := by
  unfold wpX_distance
  exact nd_isDoc1 hk (br_f (by decide) (nd_search hk hc h4 h1 (fun z m => H0 z m) (fun z m => H1 z m)))
theorem nd_end1 {post : Int32 → St2 → Prop} {k c : Nat} (hk : k < 8) (hc : c < 4) (h4 : a4 0 = nI c) (h1 : a1 k = 0 ∨ (a1 k = 1 ∧ a2 (16 * k) = nI c))
    (H0 : a1 k = 0 → ∀ m, post 0 (1, 1, 0, xl, yl, a1, a2, a3, a4, a5, m, a7, a8, a9, a10))
    (H1 : a1 k = 1 → ∀ m, post 1 (1, 0, 1, xl, yl, a1, a2, a3, a4, a5, m, a7, a8, a9, a10)) :
    wpX_end post (1, bd, be, xl, yl, a1, a2, a3, a4, a5, a6, a7, a8, a9, a10) (nI k) := by
  unfold wpX_end
  exact nd_isDoc1 hk (br_f (by decide) (nd_search hk hc h4 h1 (fun z m => H0 z m) (fun z m => H1 z m)))
/-- no pairs: none is shared -/
theorem nd_shared {post : Int32 → Prop} {ql : Int32} {k : Nat} (hk : k < 8) (h3 : ∀ j, a3 j = 0) (h5 : ∀ j, a5 j = 0) (hp : post 0) :
    wpX_sharedPairs post (ql, bd, be, xl, yl, a1, a2, a3, a4, a5, a6, a7, a8, a9, a10) (nI k) := by
  unfold wpX_sharedPairs
  exact pk_loop (σ := Unit) (fun n i _ => wX_sharedPairs_4 post (nI k) ql bd be xl yl a1 a2 a3 a4 a5 a6 a7 a8 a9 a10 n 0 (nI i)) (fun _ _ => True) 16 0 () (by omega) trivial
    (fun n _ _ => pk_le 16 16 (fun _ => hp) (fun z => absurd z (by omega)))
    (fun n i _ hi _ hw => pk_le 16 i (fun z => absurd z (by omega)) (fun _ => ⟨pk_in (16 * k + i) 128 (by omega) (nd_base k i), nm_r (e' := 0) (h3 _) ⟨pk_in i 16 hi, br_t (by rw [h5]; decide) ⟨pk_in i 16 hi, nm_r (e' := 0) (by rw [h5]; rfl) (nm_r (nI_1 i) (hw () trivial))⟩⟩⟩))
theorem nd_may {post : Int32 → Prop} {k : Nat} {e : Int32} (hk : k < 8) (h3 : ∀ j, a3 j = 0) (h5 : ∀ j, a5 j = 0) (H0 : e < 0 → post 0) (H1 : ¬ e < 0 → post 1) :
    wpX_mayBeWithin post (1, bd, be, xl, yl, a1, a2, a3, a4, a5, a6, a7, a8, a9, a10) (nI k) e := by
  unfold wpX_mayBeWithin
  by_cases h : e < 0
  · exact br_f (Int32.not_le.mpr h) (H0 h)
  · refine br_t (Int32.not_lt.mp h) (br_c (fun z => ?_) (fun _ => H1 h))
    obtain ⟨j, hj, ej⟩ := nI_of h
    have j0 : j = 0 := by
      rcases Nat.eq_zero_or_pos j with t | t
      · exact t
      · exact absurd z (by rw [ej]; exact nI_nlt (b := 1) t hj)
    have e0 : e = 0 := by rw [ej, j0]; rfl
    exact nd_shared hk h3 h5 (br_f (by rw [e0]; decide) (H1 h))
/-- within: F i is how many of the first i documents are counted -/
theorem nd_within {post : Int32 → St2 → Prop} {c : Nat} {e : Int32} (F : Nat → Nat) (hc : c < 4) (h4 : a4 0 = nI c) (h1 : ∀ k, k < 8 → a1 k = 0 ∨ (a1 k = 1 ∧ a2 (16 * k) = nI c)) (h3 : ∀ j, a3 j = 0) (h5 : ∀ j, a5 j = 0)
    (F0 : F 0 = 0) (Fn : e < 0 → ∀ i, i < 8 → F (i + 1) = F i)
    (Fz : ¬ e < 0 → e < 1 → ∀ i, i < 8 → a1 i = 0 → F (i + 1) = F i)
    (Fp : ¬ e < 0 → ¬ e < 1 → ∀ i, i < 8 → a1 i = 0 → F (i + 1) = F i + 1)
    (F1 : ¬ e < 0 → ∀ i, i < 8 → a1 i = 1 → F (i + 1) = F i + 1)
    (H : ∀ d b m, post (nI (F 8)) (1, d, b, xl, yl, a1, a2, a3, a4, a5, m, a7, a8, a9, a10)) :
    wpX_within post (1, bd, be, xl, yl, a1, a2, a3, a4, a5, a6, a7, a8, a9, a10) e := by
  unfold wpX_within
  have main : ∃ n, wX_within_4 post e n (nI (F 0)) (nI 0) 1 bd be xl yl a1 a2 a3 a4 a5 a6 a7 a8 a9 a10 := by
    refine pk_loop (σ := Int32 × Int32 × (Nat → Int32)) (fun n i s => wX_within_4 post e n (nI (F i)) (nI i) 1 s.1 s.2.1 xl yl a1 a2 a3 a4 a5 s.2.2 a7 a8 a9 a10) (fun _ _ => True) 8 0 (bd, be, a6) (by omega) trivial
      (fun n s _ => pk_le 8 8 (fun _ => H _ _ _) (fun z => absurd z (by omega))) ?_
    intro n i s hi _ hw
    refine pk_le 8 i (fun z => absurd z (by omega)) (fun _ => nd_may hi h3 h5 (fun he => ?_) (fun he => ?_))
    · have t := hw s trivial
      rw [Fn he i hi] at t
      exact br_t rfl (nm_r (nI_1 i) t)
    · refine br_f (by decide) (nd_search hi hc h4 (h1 i hi) (fun z m => ?_) (fun z m => ?_))
      · have t := hw (1, 0, m) trivial
        refine br_c (fun g => ?_) (fun g => ?_)
        · rw [Fz he g i hi z] at t
          exact nm_r (Int32.add_zero _) (nm_r (nI_1 i) t)
        · rw [Fp he g i hi z] at t
          exact nm_r (nI_1 _) (nm_r (nI_1 i) t)
      · have t := hw (0, 1, m) trivial
        rw [F1 he i hi z] at t
        exact br_f he (nm_r (nI_1 _) (nm_r (nI_1 i) t))
  rw [F0] at main
  exact main
theorem nd_wipe0 {post : Int32 → St2 → Prop} {u : St2} {p : Int32} (h : p < 0 ∨ (¬ p < 0 ∧ 7 < p)) (hp : post (-1) u) : wpX_wipe post u p := by
  obtain ⟨f1, f2, f3, f4, f5, b1, b2, b3, b4, b5, b6, b7, b8, b9, b10⟩ := u
  unfold wpX_wipe
  exact nd_isDoc0 h (br_t rfl hp)
theorem nd_wipe1 {post : Int32 → St2 → Prop} {ql : Int32} {k : Nat} (hk : k < 8)
    (H : ∀ p, post (a1 k) (ql, bd, be, xl, yl, upd a1 k 0, a2, p, a4, a5, a6, a7, a8, a9, a10)) :
    wpX_wipe post (ql, bd, be, xl, yl, a1, a2, a3, a4, a5, a6, a7, a8, a9, a10) (nI k) := by
  unfold wpX_wipe
  have hc : (nI k).toNatClampNeg = k := nI_clamp (by omega)
  have h16 : 16 * nI k = nI (16 * k) := by rw [show (16 : Int32) = nI 16 from rfl, pk_mul]
  have hE : 16 * nI k + 16 = nI (16 * k + 16) := nd_base k 16
  refine nd_isDoc1 hk (br_f (by decide) ⟨pk_in k 8 hk, nm_r (e' := a1 k) (by rw [hc]) ⟨pk_in k 8 hk, nm_r (e' := upd a1 k 0) (by rw [hc]) (nm_r h16 ?_)⟩⟩)
  exact pk_loop (fun n i s => wX_wipe_28 post (nI k) (a1 k) ql bd be xl yl n (nI i) (upd a1 k 0) a2 s a4 a5 a6 a7 a8 a9 a10) (fun _ _ => True) (16 * k + 16) (16 * k) a3 (by omega) trivial
    (fun n s _ => pk_le (16 * k + 16) (16 * k + 16) (fun _ => H s) (fun z => absurd z (by omega)) hE)
    (fun n i s hi _ hw => pk_le (16 * k + 16) i (fun z => absurd z (by omega)) (fun _ => ⟨pk_in i 128 (by omega), nm_e (nm_r (nI_1 i) (hw _ trivial))⟩) hE)
end
end
section
/-! ===== the law ===== -/
/-- no document -/
def nd_N (x : Int32) : Prop := x < 0 ∨ (¬ x < 0 ∧ 7 < x)
/-- what the flag of a document says -/
def nd_B (z x : Int32) : Prop := (z = 0 ∧ nd_N x) ∨ (z = 1 ∧ ∃ k : Nat, k < 8 ∧ x = nI k)
/-- x6: 'other' is a document; x7: it is the one that was written -/
def nd_O (a1 : Nat → Int32) (x2 x6 x7 : Int32) : Prop := (x6 = 0 ∧ nd_N x2) ∨ (x6 = 1 ∧ ∃ k : Nat, k < 8 ∧ x2 = nI k ∧ ((x7 = 0 ∧ a1 k = 0) ∨ (x7 = 1 ∧ a1 k = 1)))
/-- x5: a document was written -/
def nd_D (a1 : Nat → Int32) (x5 : Int32) : Prop := (x5 = 0 ∧ ∀ j, j < 8 → a1 j = 0) ∨ (x5 = 1 ∧ ∃ d, d < 8 ∧ a1 d = 1 ∧ ∀ j, j < 8 → j ≠ d → a1 j = 0)
/-- documents and query: a document is empty, or holds the query's one letter -/
def nd_P (a1 a2 a3 a4 a5 : Nat → Int32) : Prop := ∃ c : Nat, c < 4 ∧ a4 0 = nI c ∧ (∀ k, k < 8 → a1 k = 0 ∨ (a1 k = 1 ∧ a2 (16 * k) = nI c)) ∧ (∀ j, a3 j = 0) ∧ (∀ j, a5 j = 0)
section
variable {post : Int32 → St0 → Prop} {mc ms kc ks : Nat} {x0 x1 x2 x3 x5 x6 x7 z0 z1 bd be xl yl : Int32} {a1 a2 a3 a4 a5 a6 a7 a8 a9 a10 : Nat → Int32}
theorem nd_187 (hp : post 1 ()) (hz : z1 = z0) (hO : nd_O a1 x2 x6 x7) : wL_lawOf_187 post mc ms x2 x6 x7 z0 z1 kc ks 1 bd be xl yl a1 a2 a3 a4 a5 a6 a7 a8 a9 a10 := by
  unfold wL_lawOf_187
  refine br_t hz ?_
  rcases hO with ⟨h6, hn⟩ | ⟨h6, k, hk, e, h7⟩
  · exact nd_wipe0 hn (br_t h6 (br_t rfl hp))
  · rw [e]
    refine nd_wipe1 hk (fun p => br_f (by rw [h6]; decide) ?_)
    rcases h7 with ⟨h7, h1⟩ | ⟨h7, h1⟩
    · exact br_t h7 (br_t h1 hp)
    · exact br_f (by rw [h7]; decide) (br_t h1 hp)
theorem nd_149 (hp : post 1 ()) (hz : z1 = z0) (hP : nd_P a1 a2 a3 a4 a5) (hD : nd_D a1 x5) (hO : nd_O a1 x2 x6 x7) : wL_lawOf_149 post mc ms x2 x3 x5 x6 x7 z0 z1 kc ks 1 bd be xl yl a1 a2 a3 a4 a5 a6 a7 a8 a9 a10 := by
  obtain ⟨c, hc, h4, h1, h3, h5⟩ := hP
  unfold wL_lawOf_149
  refine br_t hz ?_
  by_cases hx : x3 < 0
  · exact nd_within (fun _ => 0) hc h4 h1 h3 h5 rfl (fun _ _ _ => rfl) (fun z => absurd hx z) (fun z => absurd hx z) (fun z => absurd hx z) (fun d b m => br_f (Int32.not_le.mpr hx) (nd_187 hp rfl hO))
  · obtain ⟨j, hj, ej⟩ := nI_of hx
    have hx' : 0 ≤ x3 := Int32.not_lt.mp hx
    rcases Nat.eq_zero_or_pos j with t | t
    · have e0 : x3 = 0 := by rw [ej, t]; rfl
      have hl : x3 ≤ 0 := by rw [e0]; decide
      have hl1 : x3 < 1 := by rw [e0]; decide
      rcases hD with ⟨hd, h0⟩ | ⟨hd, k, hk, hk1, h0⟩
      · exact nd_within (fun _ => 0) hc h4 h1 h3 h5 rfl (fun _ _ _ => rfl) (fun _ _ _ _ _ => rfl) (fun _ z => absurd hl1 z) (fun _ i hi z => absurd ((h0 i hi).symm.trans z) (by decide)) (fun d b m => br_t hx' (br_t hl (br_t hd (nd_187 hp rfl hO))))
      · refine nd_within (fun i => if k < i then 1 else 0) hc h4 h1 h3 h5 rfl (fun z => absurd z hx) (fun _ _ i hi z => ?_) (fun _ z => absurd hl1 z) (fun _ i hi z => ?_) (fun d b m => br_t hx' (br_t hl (br_f (by rw [hd]; decide) (nd_187 hp ?_ hO))))
        · have hne : i ≠ k := fun g => absurd (show (0 : Int32) = 1 from by rw [← z, g, hk1]) (by decide)
          by_cases g : k < i
          · rw [if_pos g, if_pos (by omega)]
          · rw [if_neg g, if_neg (by omega)]
        · have he : i = k := by
            by_cases g : i = k
            · exact g
            · exact absurd ((h0 i hi g).symm.trans z) (by decide)
          rw [if_pos (by omega), if_neg (by omega)]
        · rw [if_pos hk]
          rfl
    · have hl1 : ¬ x3 < 1 := by rw [ej]; exact nI_nlt (b := 1) t hj
      have hl : ¬ x3 ≤ 0 := by rw [ej]; exact nI_nle t hj
      exact nd_within (fun i => i) hc h4 h1 h3 h5 rfl (fun z => absurd z hx) (fun _ z => absurd z hl1) (fun _ _ _ _ _ => rfl) (fun _ _ _ _ => rfl) (fun d b m => br_t hx' (br_f hl (nd_187 hp rfl hO)))
theorem nd_119 (hp : post 1 ()) (hz : z1 = z0) (hP : nd_P a1 a2 a3 a4 a5) (hD : nd_D a1 x5) (hO : nd_O a1 x2 x6 x7) : wL_lawOf_119 post mc ms x2 x3 x5 x6 x7 z0 z1 kc ks 1 bd be xl yl a1 a2 a3 a4 a5 a6 a7 a8 a9 a10 := by
  unfold wL_lawOf_119
  refine br_t hz ?_
  have hO' := hO
  rcases hO' with ⟨h6, hn⟩ | ⟨h6, k, hk, e, h7⟩
  · exact nd_end0 hn (br_t h6 (nd_149 hp rfl hP hD hO))
  · obtain ⟨c, hc, h4, h1, h3, h5⟩ := id hP
    rw [e]
    rw [e] at hO
    rcases h7 with ⟨h7, hk1⟩ | ⟨h7, hk1⟩
    · exact nd_end1 hk hc h4 (h1 k hk) (fun _ m => br_f (by rw [h6]; decide) (br_t h7 (nd_149 hp rfl hP hD hO))) (fun z => absurd (hk1.symm.trans z) (by decide))
    · exact nd_end1 hk hc h4 (h1 k hk) (fun z => absurd (hk1.symm.trans z) (by decide)) (fun _ m => br_f (by rw [h6]; decide) (br_f (by rw [h7]; decide) (nd_149 hp rfl hP hD hO)))
theorem nd_92 (hp : post 1 ()) (hP : nd_P a1 a2 a3 a4 a5) (hD : nd_D a1 x5) (hO : nd_O a1 x2 x6 z0) : wL_lawOf_92 post mc ms x2 x3 x5 x6 z0 kc ks 1 bd be xl yl a1 a2 a3 a4 a5 a6 a7 a8 a9 a10 := by
  unfold wL_lawOf_92
  have hO' := hO
  rcases hO' with ⟨h6, hn⟩ | ⟨h6, k, hk, e, h7⟩
  · exact nd_distance0 hn (br_t h6 (nd_119 hp rfl hP hD hO))
  · obtain ⟨c, hc, h4, h1, h3, h5⟩ := id hP
    rw [e]
    rw [e] at hO
    rcases h7 with ⟨h7, hk1⟩ | ⟨h7, hk1⟩
    · exact nd_distance1 hk hc h4 (h1 k hk) (fun _ m => br_f (by rw [h6]; decide) (br_t h7 (nd_119 hp rfl hP hD hO))) (fun z => absurd (hk1.symm.trans z) (by decide))
    · exact nd_distance1 hk hc h4 (h1 k hk) (fun z => absurd (hk1.symm.trans z) (by decide)) (fun _ m => br_f (by rw [h6]; decide) (br_f (by rw [h7]; decide) (nd_119 hp rfl hP hD hO)))
theorem nd_60 (hz : z1 = z0) (H : ∀ z, ((x5 = 0 ∧ z = 0) ∨ (¬ x5 = 0 ∧ ((x2 = x0 ∧ z = 1) ∨ (¬ x2 = x0 ∧ z = 0)))) → wL_lawOf_92 post mc ms x2 x3 x5 x6 z kc ks 1 bd be xl yl a1 a2 a3 (upd a4 0 ((x1 + 4) &&& 3)) a5 a6 a7 a8 a9 a10) : wL_lawOf_60 post mc ms x0 x1 x2 x3 x5 x6 z0 z1 kc ks 0 bd be xl yl a1 a2 a3 a4 a5 a6 a7 a8 a9 a10 := by
  unfold wL_lawOf_60
  exact br_t hz (nd_type (br_t rfl (br_c (fun g => H 0 (Or.inl ⟨g, rfl⟩)) (fun g => br_c (fun t => H 1 (Or.inr ⟨g, Or.inl ⟨t, rfl⟩⟩)) (fun t => H 0 (Or.inr ⟨g, Or.inr ⟨t, rfl⟩⟩))))))
theorem nd_41 (hp : post 1 ()) (hd : nd_B x5 x0) (ho : nd_B x6 x2) : wL_lawOf_41 post mc ms x0 x1 x2 x3 x5 x6 kc ks 0 0 0 0 0 (fun _ => 0) (fun _ => 0) (fun _ => 0) (fun _ => 0) (fun _ => 0) (fun _ => 0) (fun _ => 0) (fun _ => 0) (fun _ => 0) (fun _ => 0) := by
  unfold wL_lawOf_41
  obtain ⟨c, hc, ec⟩ := pk_andE x1 (m := 3) 2 (by decide)
  have h4 : upd (fun _ => 0) 0 ((x1 + 4) &&& 3) 0 = nI c := by rw [pk_us, nd_and, ec]
  rcases hd with ⟨hd, hn⟩ | ⟨hd, d, hk, e⟩
  · refine nd_write0 hn (br_t hd (nd_60 rfl (fun z hz => nd_92 hp ⟨c, hc, h4, fun _ _ => Or.inl rfl, fun _ => rfl, fun _ => rfl⟩ (Or.inl ⟨hd, fun _ _ => rfl⟩) ?_)))
    rcases ho with ho | ⟨h6, k, hk, ek⟩
    · exact Or.inl ho
    · rcases hz with ⟨_, hz⟩ | ⟨h5, _⟩
      · exact Or.inr ⟨h6, k, hk, ek, Or.inl ⟨hz, rfl⟩⟩
      · exact absurd hd h5
  · rw [e]
    refine nd_write1 hk rfl (br_f (by rw [hd]; decide) (nd_60 rfl (fun z hz => nd_92 hp ⟨c, hc, h4, fun j hj => ?_, fun _ => rfl, fun _ => rfl⟩ (Or.inr ⟨hd, d, hk, pk_us, fun j _ hj => pk_un hj⟩) ?_)))
    · by_cases g : j = d
      · rw [g]
        exact Or.inr ⟨pk_us, by rw [pk_us, ec]⟩
      · exact Or.inl (pk_un g)
    · rcases ho with ho | ⟨h6, k, hk2, ek⟩
      · exact Or.inl ho
      · refine Or.inr ⟨h6, k, hk2, ek, ?_⟩
        rcases hz with ⟨h5, _⟩ | ⟨_, ⟨h2, hz⟩ | ⟨h2, hz⟩⟩
        · exact absurd (hd.symm.trans h5) (by decide)
        · have g : k = d := (nI_eq (by omega) (by omega)).mp (ek.symm.trans h2)
          exact Or.inr ⟨hz, by rw [g]; exact pk_us⟩
        · have g : k ≠ d := fun t => h2 (by rw [ek, t])
          exact Or.inl ⟨hz, pk_un g⟩
theorem nd_24 (hp : post 1 ()) (hd : nd_B z0 x0) : wL_lawOf_24 post mc ms x0 x1 x2 x3 z0 kc ks 0 0 0 0 0 (fun _ => 0) (fun _ => 0) (fun _ => 0) (fun _ => 0) (fun _ => 0) (fun _ => 0) (fun _ => 0) (fun _ => 0) (fun _ => 0) (fun _ => 0) := by
  unfold wL_lawOf_24
  rcases nd_ix x2 with h | ⟨h, h7⟩ | ⟨h, h7, hk⟩
  · exact br_t h (nd_41 hp hd (Or.inl ⟨rfl, Or.inl h⟩))
  · exact br_f h (br_t h7 (nd_41 hp hd (Or.inl ⟨rfl, Or.inr ⟨h, h7⟩⟩)))
  · exact br_f h (br_f h7 (nd_41 hp hd (Or.inr ⟨rfl, hk⟩)))
theorem nd_lawOf (hp : post 1 ()) : wpL_lawOf post 11 373 () x0 x1 x2 x3 := by
  unfold wpL_lawOf
  refine ⟨by decide, by decide, 10, 358, by decide, by decide, by decide, by decide, by decide, by decide, by decide, by decide, by decide, by decide, by decide, by decide, by decide, by decide, by decide, by decide, by decide, by decide, by decide, by decide, by decide, by decide, ?_⟩
  rcases nd_ix x0 with h | ⟨h, h7⟩ | ⟨h, h7, hk⟩
  · exact br_t h (nd_24 hp (Or.inl ⟨rfl, Or.inl h⟩))
  · exact br_f h (br_t h7 (nd_24 hp (Or.inl ⟨rfl, Or.inr ⟨h, h7⟩⟩)))
  · exact br_f h (br_f h7 (nd_24 hp (Or.inr ⟨rfl, hk⟩)))
end
theorem nd_cell {post : Int32 → Prop} {L : Nat} {xs : Nat → Int32} {x : Int32} (i : Nat) (hi : i < 4) (hL : L ≤ 4) (hx : x = nI i) (H : ∀ r, post r) : wpL_cellAt post L xs () x :=
  pk_le L i (fun _ => H _) (fun z => ⟨pk_in i L z hx, H _⟩) rfl hx
theorem i_vc (xs : Nat → Int32) (L : Nat) (hL : L ≤ 4) : wpL_law (fun r => r = 1) L xs := by
  unfold wpL_law
  exact nd_cell 0 (by omega) hL rfl (fun r1 => nd_cell 1 (by omega) hL rfl (fun r2 => nd_cell 2 (by omega) hL rfl (fun r3 => nd_cell 3 (by omega) hL rfl (fun r4 => ⟨11, 373, by decide, by decide, nd_lawOf rfl⟩))))
end
