section
/-! small facts: places, bits, filling -/
theorem mt_in {j : Nat} (h : j < 18) : vp_in (nI j) 18 := vp_in_nI h (by decide)
theorem mt_cl {j : Nat} (h : j < 18) : (nI j).toNatClampNeg = j := nI_clamp (by omega)
theorem mt_fill {f s : Nat → Int32} {i : Nat} {x : Int32} (h : ∀ j, j < i → s j = f j) (hx : x = f i) : ∀ j, j < i + 1 → upd s i x j = f j := by
  intro j hj
  by_cases e : j = i
  · rw [e, pk_us, hx]
  · rw [pk_un e]
    exact h j (by omega)
theorem mt_bit1 : ∀ i, i < 19 → ∀ j, j < i → ¬ ((nI (2 ^ i - 1) >>> (nI j &&& 31)) &&& 1) = 0 := by decide +kernel
theorem mt_bit0 : ∀ i, i < 18 → ((nI (2 ^ i - 1) >>> (nI i &&& 31)) &&& 1) = 0 := by decide +kernel
theorem mt_or : ∀ i, i < 18 → nI (2 ^ i - 1) ||| ((1 : Int32) <<< (nI i &&& 31)) = nI (2 ^ (i + 1) - 1) := by decide +kernel
theorem mt_48 : ∀ j, j < 18 → (((48 : Int32) >>> (nI j &&& 31)) &&& 1) = 1 → j = 4 ∨ j = 5 := by decide +kernel
theorem mt_00 : ∀ j, j < 18 → (((0 : Int32) >>> (nI j &&& 31)) &&& 1) = 1 → False := by decide +kernel
theorem mt_nar0 : vp_nar .boolean 0 = 0 := by decide
theorem mt_nar1 : vp_nar .boolean 1 = 1 := by decide
theorem mt_m (x : Int32) : x + (-1) = x - 1 := by rw [Int32.sub_eq_add_neg]
theorem mt_or0 (x : Int32) : x ||| 0 = x := by simp
theorem mt_and0 (x : Int32) : 0 &&& x = 0 := by simp
/-! the small methods -/
theorem mt_off {post : Int32 → Prop} {j : Nat} (h : j < 18) (hp : post 0) : wpX_off post () (nI j) := by
  unfold wpX_off
  exact br_f (nI_pos (by omega)) (br_t (nI_lt h (by decide)) hp)
theorem mt_bits {post : Int32 → Prop} {p : Int32} (H : ∀ r, post r) : wpX_bits post () p := by
  unfold wpX_bits
  exact pk_loop (fun n i s => wX_bits_4 post p n s (nI i)) (fun _ _ => True) 18 0 (0 : Int32) (by omega) trivial
    (fun n s _ => pk_le 18 18 (fun _ => H s) (fun z => absurd z (by omega)))
    (fun n i s hi _ hw => pk_le 18 i (fun z => absurd z (by omega)) (fun _ => nm_e (nm_r (nI_1 i) (hw _ trivial))))
/-- a set whose members need nothing is its own hull -/
theorem mt_closure {post : Int32 → Prop} {c : Int32} {a1 a2 a3 a4 a5 a6 a7 a8 a9 a10 a11 a12 a13 a14 a15 : Nat → Int32} {s : Int32} (h : ∀ j, j < 18 → ((s >>> (nI j &&& 31)) &&& 1) = 1 → a6 j = 0) (H : post s) : wpX_closure post (c, a1, a2, a3, a4, a5, a6, a7, a8, a9, a10, a11, a12, a13, a14, a15) s := by
  unfold wpX_closure
  by_cases e : s = 0
  · exact ⟨0 + 1, br_f (by decide) (br_t e H)⟩
  · refine ⟨0 + 1 + 1, br_f (by decide) (br_f e ?_)⟩
    refine pk_loop (σ := Unit) (fun n i _ => wX_closure_24 post (wX_closure_7 post c a1 a2 a3 a4 a5 a6 a7 a8 a9 a10 a11 a12 a13 a14 a15 (0 + 1)) s 0 c a1 a2 a3 a4 a5 a6 a7 a8 a9 a10 a11 a12 a13 a14 a15 n s (nI i)) (fun _ _ => True) 18 0 () (by omega) trivial ?_ ?_
    · intro n _ _
      exact pk_le 18 18 (fun _ => nm_e (br_f (by decide) (br_t rfl H))) (fun z => absurd z (by omega))
    · intro n i _ hi _ hw
      refine pk_le 18 i (fun z => absurd z (by omega)) (fun _ => ?_)
      refine br_c (fun g => ⟨mt_in hi, nm_r (e' := s) ?_ (nm_r (nI_1 i) (hw () trivial))⟩) (fun _ => nm_r (nI_1 i) (hw () trivial))
      rw [mt_cl hi, h i hi g, mt_or0]
theorem mt_combine {post : Int32 → Prop} {k : Nat} {x y s : Int32} (h2 : 2 ≤ k) (h5 : k ≤ 5) (H : post (if k = 2 then x + y else if k = 3 then x - y else if k = 4 then x * y else if y ≤ x then 0 else 1)) : wpX_combine post () (nI k) x y s := by
  unfold wpX_combine
  refine br_f (nI_nlt h2 (by omega)) (br_f (nI_nlt h5 (by decide)) ?_)
  refine pk_eq k 2 (fun z => ?_) (fun z => ?_)
  · rw [if_pos z] at H
    exact H
  · rw [if_neg z] at H
    refine pk_eq k 3 (fun z => ?_) (fun z => ?_)
    · rw [if_pos z] at H
      exact H
    · rw [if_neg z] at H
      refine pk_eq k 4 (fun z => ?_) (fun z => ?_)
      · rw [if_pos z] at H
        exact H
      · rw [if_neg z] at H
        refine pk_eq k 5 (fun _ => ?_) (fun _ => trivial)
        refine br_c (fun g => ?_) (fun g => ?_)
        · rw [if_pos g] at H
          exact H
        · rw [if_neg g] at H
          exact H
end
section
/-! compile: the order is the identity -/
theorem mt_c12 {post : St2 → Prop} {J4 : Int32 → Int32 → (Nat → Int32) → (Nat → Int32) → (Nat → Int32) → (Nat → Int32) → (Nat → Int32) → (Nat → Int32) → (Nat → Int32) → (Nat → Int32) → (Nat → Int32) → (Nat → Int32) → (Nat → Int32) → (Nat → Int32) → (Nat → Int32) → (Nat → Int32) → (Nat → Int32) → Prop} {c : Int32} {a1 a2 a3 a4 a5 a6 a7 a8 a9 a10 a11 a12 a13 a14 a15 : Nat → Int32} {i : Nat} (hi : i < 18) (h6 : a6 i &&& (nI (2 ^ i - 1) ^^^ (-1)) = 0)
    (H : J4 (nI (2 ^ (i + 1) - 1)) (nI (i + 1)) a1 a2 a3 a4 a5 a6 (upd a7 i (nI i)) a8 a9 a10 a11 a12 a13 a14 a15) : ∃ n, wX_compile_12 post J4 (nI (2 ^ i - 1)) (nI i) c a1 a2 a3 a4 a5 a6 a7 a8 a9 a10 a11 a12 a13 a14 a15 n 0 := by
  have H33 : wX_compile_33 post J4 (nI (2 ^ i - 1)) (nI i) (nI i) c a1 a2 a3 a4 a5 a6 a7 a8 a9 a10 a11 a12 a13 a14 a15 := ⟨mt_in hi, nm_r (by rw [mt_cl hi]) (nm_r (mt_or i hi) (nm_r (nI_1 i) H))⟩
  exact pk_loop (σ := Unit) (fun n j _ => wX_compile_12 post J4 (nI (2 ^ i - 1)) (nI i) c a1 a2 a3 a4 a5 a6 a7 a8 a9 a10 a11 a12 a13 a14 a15 n (nI j)) (fun _ _ => True) i 0 () (by omega) trivial
    (fun n _ _ => pk_le 17 i (fun _ => H33) (fun _ => br_t (mt_bit0 i hi) ⟨mt_in hi, br_t (by rw [mt_cl hi]; exact h6) (br_f (by decide) H33)⟩))
    (fun n j _ hj _ hw => pk_le 17 j (fun z => absurd z (by omega)) (fun _ => br_f (mt_bit1 i (by omega) j hj) (br_t rfl (nm_r (nI_1 j) (hw () trivial)))))
theorem mt_c4 {post : St2 → Prop} {c : Int32} {a1 a2 a3 a4 a5 a6 a7 a8 a9 a10 a11 a12 a13 a14 a15 : Nat → Int32} (h6 : ∀ i, i < 18 → a6 i &&& (nI (2 ^ i - 1) ^^^ (-1)) = 0)
    (H : ∀ b7 : Nat → Int32, (∀ j, j < 18 → b7 j = nI j) → ∃ n, wX_compile_54 post n 0 c a1 a2 a3 a4 a5 a6 b7 a8 a9 a10 a11 a12 a13 a14 a15) : wpX_compile post (c, a1, a2, a3, a4, a5, a6, a7, a8, a9, a10, a11, a12, a13, a14, a15) := by
  unfold wpX_compile
  exact pk_loop (fun n i b7 => wX_compile_4 post c n (nI (2 ^ i - 1)) (nI i) a1 a2 a3 a4 a5 a6 b7 a8 a9 a10 a11 a12 a13 a14 a15) (fun i b7 => ∀ j, j < i → b7 j = nI j) 18 0 a7 (by omega) (fun j hj => absurd hj (by omega))
    (fun n s h => pk_le 18 18 (fun _ => H s h) (fun z => absurd z (by omega)))
    (fun n i s hi h hw => pk_le 18 i (fun z => absurd z (by omega)) (fun _ => mt_c12 hi (h6 i hi) (hw _ (mt_fill (f := nI) h rfl))))
/-! fold -/
/-- constness of a kind, as the flag says it -/
def mt_k (x : Int32) : Int32 := if x = 1 then 1 else 0
theorem mt_113 {post : St2 → Prop} {c : Int32} {a1 a2 a3 a4 a5 a6 a7 a8 a9 a10 a11 a12 a13 a14 a15 : Nat → Int32} {j : Nat} {x2 : Int32} (hj : j < 18) (h8 : a8 j = 0) (H : post (c, a1, a2, a3, a4, a5, a6, a7, a8, a9, a10, a11, a12, a13, a14, a15)) : wX_fold_113 post (nI j) x2 c a1 a2 a3 a4 a5 a6 a7 a8 a9 a10 a11 a12 a13 a14 a15 := by
  refine ⟨mt_in hj, br_t ?_ H⟩
  rw [mt_cl hj]
  exact h8
theorem mt_fold {post : St2 → Prop} {c : Int32} {a1 a2 a3 a4 a5 a6 a7 a8 a9 a10 a11 a12 a13 a14 a15 : Nat → Int32} {j : Nat} (hj : j < 18) (r2 : vp_in (a2 j) 18) (r3 : vp_in (a3 j) 18) (r4 : vp_in (a4 j) 18)
    (hk : a1 j = 1 ∨ a1 j = 0 ∨ ∃ k : Nat, 2 ≤ k ∧ k ≤ 5 ∧ a1 j = nI k ∧ a2 j = nI 4 ∧ a8 4 = 0 ∧ 4 < j)
    (H : ∀ b8 b9 : Nat → Int32, b8 j = mt_k (a1 j) → (∀ g, g ≠ j → b8 g = a8 g) → (a1 j = 1 → b9 j = a5 j) → (∀ g, g ≠ j → b9 g = a9 g) → post (c, a1, a2, a3, a4, a5, a6, a7, b8, b9, a10, a11, a12, a13, a14, a15)) : wpX_fold post (c, a1, a2, a3, a4, a5, a6, a7, a8, a9, a10, a11, a12, a13, a14, a15) (nI j) := by
  refine ⟨mt_in hj, nm_r (by rw [mt_cl hj]) ?_⟩
  rcases hk with e | e | ⟨k, k2, k5, e, e2, e4, h4⟩
  · rw [e]
    refine br_t rfl ⟨mt_in hj, nm_r (e' := upd a8 j 1) (by rw [mt_cl hj, mt_nar1]) (br_t (by decide) ⟨mt_in hj, br_f ?_ ?_⟩)⟩
    · rw [mt_cl hj, pk_us]
      decide
    · rw [mt_cl hj]
      refine ⟨mt_in hj, r2, nm_e ⟨mt_in hj, r3, nm_e ⟨mt_in hj, r4, nm_e (br_t rfl ⟨mt_in hj, mt_in hj, nm_e ?_⟩)⟩⟩⟩
      exact H _ _ (by rw [pk_us, e]; rfl) (fun g hg => pk_un hg) (fun _ => pk_us) (fun g hg => pk_un hg)
  · rw [e]
    refine br_f (by decide) ⟨mt_in hj, nm_r (e' := upd a8 j 0) (by rw [mt_cl hj, mt_nar0]) (br_t (by decide) (mt_113 hj pk_us ?_))⟩
    exact H _ _ (by rw [pk_us, e]; rfl) (fun g hg => pk_un hg) (fun z => absurd (e.symm.trans z) (by decide)) (fun g hg => rfl)
  · rw [e]
    have n1 : ¬ nI k = 1 := fun z => absurd ((nI_eq (a := k) (b := 1) (by omega) (by omega)).mp z) (by omega)
    refine br_f n1 ⟨mt_in hj, nm_r (e' := upd a8 j 0) (by rw [mt_cl hj, mt_nar0]) (br_f (nI_nlt k2 (by omega)) (br_f (nI_nlt (a := 6) (b := k) (by omega) (by decide)) ⟨mt_in hj, ?_⟩))⟩
    rw [mt_cl hj]
    refine ⟨r2, br_t ?_ ?_⟩
    · rw [e2, mt_cl (show 4 < 18 by omega), pk_un (by omega)]
      exact e4
    · have h72 : wX_fold_72 post (nI j) (nI k) 0 (nI j) c a1 a2 a3 a4 a5 a6 a7 (upd a8 j 0) a9 a10 a11 a12 a13 a14 a15 := by
        refine ⟨mt_in hj, nm_r (e' := upd (upd a8 j 0) j 0) (by rw [mt_cl hj, mt_nar0]) (br_f ?_ (mt_113 hj pk_us ?_))⟩
        · exact fun z => absurd ((nI_eq (a := k) (b := 6) (by omega) (by omega)).mp z) (by omega)
        · refine H _ _ ?_ (fun g hg => by rw [pk_un hg, pk_un hg]) (fun z => absurd (e.symm.trans z) n1) (fun g hg => rfl)
          rw [pk_us, e]
          exact (if_neg n1).symm
      exact h72
/-! share -/
theorem mt_alike {post : Int32 → Prop} {c : Int32} {a1 a2 a3 a4 a5 a6 a7 a8 a9 a10 a11 a12 a13 a14 a15 : Nat → Int32} {g f : Nat} {p : Int32} (hp : p = nI g) (hg : g < 18) (hf : f < 18) (hn : ¬ a1 g = a1 f) (H : post 0) : wpX_definedAlike post (c, a1, a2, a3, a4, a5, a6, a7, a8, a9, a10, a11, a12, a13, a14, a15) p (nI f) := by
  rw [hp]
  refine ⟨mt_in hf, nm_r (e' := a1 f) (by rw [mt_cl hf]) ⟨mt_in hg, br_f ?_ H⟩⟩
  rw [mt_cl hg]
  exact hn
theorem mt_s50 {post : St2 → Prop} {c : Int32} {a1 a2 a3 a4 a5 a6 a7 a8 a9 a10 a11 a12 a13 a14 a15 : Nat → Int32} {f : Nat} (hf : f < 18) (h7 : ∀ j, j < 18 → a7 j = nI j) (hn : ∀ g, g < f → ¬ a1 g = a1 f) (H : post (c, a1, a2, a3, a4, a5, a6, a7, a8, a9, a10, a11, a12, a13, a14, a15)) : ∃ n, wX_share_50 post (nI f) c n (nI f - 1) a1 a2 a3 a4 a5 a6 a7 a8 a9 a10 a11 a12 a13 a14 a15 := by
  refine ⟨f + 1, pk_loopD (σ := Unit) (fun n i _ => wX_share_50 post (nI f) c n (nI i - 1) a1 a2 a3 a4 a5 a6 a7 a8 a9 a10 a11 a12 a13 a14 a15) (fun i _ => i ≤ f) ?_ ?_ f () (Nat.le_refl f)⟩
  · intro n _ _
    exact br_t (by decide) H
  · intro n i _ hi hw
    have t : wX_share_50 post (nI f) c n (nI i - 1) a1 a2 a3 a4 a5 a6 a7 a8 a9 a10 a11 a12 a13 a14 a15 := hw () (by omega)
    show wX_share_50 post (nI f) c (n + 1) (nI (i + 1) - 1) a1 a2 a3 a4 a5 a6 a7 a8 a9 a10 a11 a12 a13 a14 a15
    rw [nI_pred]
    have hi' : i < 18 := by omega
    refine br_f (nI_pos (by omega)) ⟨mt_in hi', mt_alike (g := i) ?_ hi' hf (hn i (by omega)) (br_t rfl (nm_r (mt_m _) t))⟩
    rw [mt_cl hi', h7 i hi']
theorem mt_share {post : St2 → Prop} {c : Int32} {a1 a2 a3 a4 a5 a6 a7 a8 a9 a10 a11 a12 a13 a14 a15 : Nat → Int32} {f : Nat} (hf : f < 18) (h7 : ∀ j, j < 18 → a7 j = nI j) (n7 : ¬ a1 f = 7) (n8 : ¬ a1 f = 8) (hn : a8 f = 0 → ∀ g, g < f → ¬ a1 g = a1 f) (H : post (c, a1, a2, a3, a4, a5, a6, a7, a8, a9, upd a10 f (nI f), a11, a12, a13, a14, a15)) : wpX_share post (c, a1, a2, a3, a4, a5, a6, a7, a8, a9, a10, a11, a12, a13, a14, a15) (nI f) := by
  refine ⟨mt_in hf, nm_r (e' := nI f) (by rw [mt_cl hf, h7 f hf]) ⟨mt_in hf, nm_r (e' := upd a10 f (nI f)) (by rw [mt_cl hf]) ⟨mt_in hf, ?_⟩⟩⟩
  rw [mt_cl hf]
  exact br_f n7 ⟨mt_in hf, br_f n8 ⟨mt_in hf, br_c (fun z => nm_e (mt_s50 hf h7 (hn z) H)) (fun _ => H)⟩⟩
/-! compile -/
/-- good definitions: operands in range, needs below the flow, one flow of a kind that isn't constant -/
def mt_G (a1 a2 a3 a4 a6 : Nat → Int32) : Prop := ∀ j, j < 18 → vp_in (a2 j) 18 ∧ vp_in (a3 j) 18 ∧ vp_in (a4 j) 18 ∧ a6 j &&& (nI (2 ^ j - 1) ^^^ (-1)) = 0 ∧
  (a1 j = 1 ∨ ((a1 j = 0 ∨ ∃ k : Nat, 2 ≤ k ∧ k ≤ 5 ∧ a1 j = nI k ∧ a2 j = nI 4 ∧ a1 4 = 0 ∧ 4 < j) ∧ ∀ g, g < j → ¬ a1 g = a1 j))
/-- the compiled form, below i -/
def mt_C (a1 a5 a8 a9 a10 : Nat → Int32) (i : Nat) : Prop := ∀ j, j < i → a8 j = mt_k (a1 j) ∧ (a1 j = 1 → a9 j = a5 j) ∧ a10 j = nI j
theorem mt_compile {post : St2 → Prop} {c : Int32} {a1 a2 a3 a4 a5 a6 a7 a8 a9 a10 a11 a12 a13 a14 a15 : Nat → Int32} (G : mt_G a1 a2 a3 a4 a6)
    (H : ∀ b7 b8 b9 b10 : Nat → Int32, (∀ j, j < 18 → b7 j = nI j) → mt_C a1 a5 b8 b9 b10 18 → post (c, a1, a2, a3, a4, a5, a6, b7, b8, b9, b10, a11, a12, a13, a14, a15)) : wpX_compile post (c, a1, a2, a3, a4, a5, a6, a7, a8, a9, a10, a11, a12, a13, a14, a15) := by
  refine mt_c4 (fun i hi => (G i hi).2.2.2.1) (fun b7 h7 => ?_)
  refine pk_loop (σ := (Nat → Int32) × (Nat → Int32) × (Nat → Int32)) (fun n i s => wX_compile_54 post n (nI i) c a1 a2 a3 a4 a5 a6 b7 s.1 s.2.1 s.2.2 a11 a12 a13 a14 a15) (fun i s => mt_C a1 a5 s.1 s.2.1 s.2.2 i) 18 0 (a8, a9, a10) (by omega) (fun j hj => absurd hj (by omega)) ?_ ?_
  · intro n s h
    exact pk_le 18 18 (fun _ => H b7 s.1 s.2.1 s.2.2 h7 h) (fun z => absurd z (by omega))
  · intro n i s hi h hw
    obtain ⟨s8, s9, s10⟩ := s
    refine pk_le 18 i (fun z => absurd z (by omega)) (fun _ => ⟨mt_in hi, ?_⟩)
    rw [mt_cl hi, h7 i hi]
    obtain ⟨r2, r3, r4, _, hk⟩ := G i hi
    have hk' : a1 i = 1 ∨ a1 i = 0 ∨ ∃ k : Nat, 2 ≤ k ∧ k ≤ 5 ∧ a1 i = nI k ∧ a2 i = nI 4 ∧ s8 4 = 0 ∧ 4 < i := by
      rcases hk with e | ⟨e | ⟨k, k2, k5, e, e2, e4, h4⟩, _⟩
      · exact Or.inl e
      · exact Or.inr (Or.inl e)
      · refine Or.inr (Or.inr ⟨k, k2, k5, e, e2, ?_, h4⟩)
        have t := (h 4 h4).1
        rw [e4] at t
        exact t
    refine mt_fold hi r2 r3 r4 hk' (fun b8 b9 h8 h8' h9 h9' => ?_)
    have n7 : ¬ a1 i = 7 := by
      rcases hk' with e | e | ⟨k, k2, k5, e, _⟩
      · rw [e]; decide
      · rw [e]; decide
      · rw [e]
        exact fun z => absurd ((nI_eq (a := k) (b := 7) (by omega) (by omega)).mp z) (by omega)
    have n8 : ¬ a1 i = 8 := by
      rcases hk' with e | e | ⟨k, k2, k5, e, _⟩
      · rw [e]; decide
      · rw [e]; decide
      · rw [e]
        exact fun z => absurd ((nI_eq (a := k) (b := 8) (by omega) (by omega)).mp z) (by omega)
    refine mt_share hi h7 n7 n8 (fun z => ?_) (nm_r (nI_1 i) (hw (b8, b9, upd s10 i (nI i)) ?_))
    · rcases hk with e | ⟨_, e⟩
      · rw [h8, e] at z
        exact absurd z (by decide)
      · exact e
    · intro j hj
      by_cases e : j = i
      · rw [e]
        exact ⟨h8, h9, pk_us⟩
      · obtain ⟨t1, t2, t3⟩ := h j (by omega)
        exact ⟨(h8' j e).trans t1, fun z => (h9' j e).trans (t2 z), (pk_un e).trans t3⟩
end
section
/-! define: the names of a kind -/
theorem mt_A0 {post : Int32 → Prop} {k : Nat} (h : k < 2) (H : post 0) : wpX_namesA post () (nI k) := br_t (nI_lt h (by decide)) H
theorem mt_A1 {post : Int32 → Prop} {k : Nat} (h : 2 ≤ k) (h' : k ≤ 5) (H : post 1) : wpX_namesA post () (nI k) := br_f (nI_nlt h (by omega)) H
theorem mt_B0 {post : Int32 → Prop} {k : Nat} (h : k < 2) (H : post 0) : wpX_namesB post () (nI k) := br_t (nI_lt h (by decide)) H
theorem mt_B1 {post : Int32 → Prop} {k : Nat} (h : 2 ≤ k) (h' : k ≤ 5) (H : post 1) : wpX_namesB post () (nI k) := br_f (nI_nlt h (by omega)) (br_f (nI_nlt (a := 6) (b := k) (by omega) (by decide)) H)
theorem mt_ne {k m : Nat} (h : k < m) (hm : m < 2 ^ 31) : ¬ nI k = nI m := fun z => absurd ((nI_eq (a := k) (b := m) (by omega) hm).mp z) (by omega)
theorem mt_S0 {post : Int32 → Prop} {k : Nat} (h : k ≤ 5) (H : post 0) : wpX_namesS post () (nI k) := br_f (mt_ne (m := 6) (by omega) (by decide)) (br_f (mt_ne (m := 8) (by omega) (by decide)) H)
theorem mt_b32 {post : Int32 → Prop} {c : Int32} {a1 a2 a3 a4 a5 a6 a7 a8 a9 a10 a11 a12 a13 a14 a15 : Nat → Int32} {k : Nat} {s : Int32} (h : k ≤ 5) (H : post 0) : wX_badOperands_32 post (nI k) s c a1 a2 a3 a4 a5 a6 a7 a8 a9 a10 a11 a12 a13 a14 a15 := by
  unfold wX_badOperands_32
  exact mt_S0 h (br_t rfl H)
theorem mt_bo0 {post : Int32 → Prop} {c : Int32} {a1 a2 a3 a4 a5 a6 a7 a8 a9 a10 a11 a12 a13 a14 a15 : Nat → Int32} {k : Nat} {a b s : Int32} (h : k < 2) (H : post 0) : wpX_badOperands post (c, a1, a2, a3, a4, a5, a6, a7, a8, a9, a10, a11, a12, a13, a14, a15) (nI k) a b s := by
  unfold wpX_badOperands
  refine mt_A0 h (br_t rfl ?_)
  unfold wX_badOperands_16
  exact mt_B0 h (br_t rfl (mt_b32 (by omega) H))
theorem mt_bo1 {post : Int32 → Prop} {c : Int32} {a1 a2 a3 a4 a5 a6 a7 a8 a9 a10 a11 a12 a13 a14 a15 : Nat → Int32} {k a b : Nat} {s : Int32} (h : 2 ≤ k) (h' : k ≤ 5) (ha : a < 18) (hb : b < 18) (H : post 0) : wpX_badOperands post (c, a1, a2, a3, a4, a5, a6, a7, a8, a9, a10, a11, a12, a13, a14, a15) (nI k) (nI a) (nI b) s := by
  unfold wpX_badOperands
  refine mt_A1 h h' (br_f (by decide) (mt_off ha (br_t rfl ?_)))
  unfold wX_badOperands_16
  exact mt_B1 h h' (br_f (by decide) (mt_off hb (br_t rfl (mt_b32 h' H))))
theorem mt_o41 {post : Int32 → Prop} {k : Nat} {s x : Int32} (h : k ≤ 5) (H : post x) : wX_operandSet_41 post (nI k) s x := by
  unfold wX_operandSet_41
  exact mt_S0 h (br_t rfl H)
theorem mt_os0 {post : Int32 → Prop} {k : Nat} {a b s : Int32} (h : k < 2) (H : post 0) : wpX_operandSet post () (nI k) a b s := by
  refine br_f (mt_ne (m := 7) (by omega) (by decide)) (mt_A0 h (br_t rfl ?_))
  unfold wX_operandSet_26
  exact mt_B0 h (br_t rfl (mt_o41 (by omega) H))
theorem mt_os1 {post : Int32 → Prop} {k : Nat} {a b s : Int32} (h : 2 ≤ k) (h' : k ≤ 5) (H : post ((0 ||| ((1 : Int32) <<< (a &&& 31))) ||| ((1 : Int32) <<< (b &&& 31)))) : wpX_operandSet post () (nI k) a b s := by
  refine br_f (mt_ne (m := 7) (by omega) (by decide)) (mt_A1 h h' (br_f (by decide) (nm_e ?_)))
  unfold wX_operandSet_26
  exact mt_B1 h h' (br_f (by decide) (nm_e (mt_o41 h' H)))
/-! define: the stores -/
theorem mt_161 {post : Int32 → St2 → Prop} {c : Int32} {a1 a2 a3 a4 a5 a6 a7 a8 a9 a10 a11 a12 a13 a14 a15 : Nat → Int32} {f : Nat} {v s q z : Int32} (hf : f < 18) (G : mt_G a1 a2 a3 (upd a4 f z) (upd a6 f s))
    (H : ∀ (r : Int32) (b7 b8 b9 b10 : Nat → Int32), (∀ j, j < 18 → b7 j = nI j) → mt_C a1 (upd a5 f v) b8 b9 b10 18 → post r (c, a1, a2, a3, upd a4 f z, upd a5 f v, upd a6 f s, b7, b8, b9, b10, a11, a12, upd a13 f 1, a14, a15)) :
    wX_define_161 post (nI f) v s q z (nI f) c a1 a2 a3 a4 a5 a6 a7 a8 a9 a10 a11 a12 a13 a14 a15 := by
  unfold wX_define_161
  rw [mt_cl hf]
  refine ⟨mt_in hf, nm_e ⟨mt_in hf, nm_e ⟨mt_in hf, nm_e ⟨mt_in hf, nm_e ?_⟩⟩⟩⟩
  exact mt_compile G (fun b7 b8 b9 b10 h7 hC => mt_bits (fun r => H r b7 b8 b9 b10 h7 hC))
/-- define of a kind 0 or 1: nothing is named -/
theorem mt_dlow {post : Int32 → St2 → Prop} {c : Int32} {a1 a2 a3 a4 a5 a6 a7 a8 a9 a10 a11 a12 a13 a14 a15 : Nat → Int32} {f k : Nat} {o v : Int32} (hf : f < 18) (hk : k < 2) (G : mt_G (upd a1 f (nI k)) (upd a2 f 0) (upd a3 f 0) (upd a4 f 0) (upd a6 f 0))
    (H : ∀ (r : Int32) (b7 b8 b9 b10 : Nat → Int32), (∀ j, j < 18 → b7 j = nI j) → mt_C (upd a1 f (nI k)) (upd a5 f v) b8 b9 b10 18 → post r (c, upd a1 f (nI k), upd a2 f 0, upd a3 f 0, upd a4 f 0, upd a5 f v, upd a6 f 0, b7, b8, b9, b10, a11, a12, upd a13 f 1, a14, a15)) :
    wpX_define post (c, a1, a2, a3, a4, a5, a6, a7, a8, a9, a10, a11, a12, a13, a14, a15) (nI f) (nI k) o v := by
  unfold wpX_define
  refine mt_off hf (br_t rfl (br_f (nI_pos (by omega)) (br_t (nI_le (b := 8) (by omega) (by decide)) (nm_e (nm_e (nm_e (mt_bo0 hk (br_t rfl (mt_os0 hk (mt_closure (fun j hj z => (mt_00 j hj z).elim) (br_f (fun z => mt_00 f hf z) ⟨mt_in hf, nm_r (e' := upd a1 f (nI k)) (by rw [mt_cl hf]) (mt_A0 hk (br_t rfl ?_))⟩))))))))))) 
  refine ⟨mt_in hf, nm_r (e' := upd a2 f 0) (by rw [mt_cl hf]) (mt_B0 hk (br_t rfl ⟨mt_in hf, nm_r (e' := upd a3 f 0) (by rw [mt_cl hf]) (mt_S0 (by omega) (br_t rfl ?_))⟩))⟩
  exact mt_161 hf G H
/-- define of a kind 2 to 5: two flows are named -/
theorem mt_dhigh {post : Int32 → St2 → Prop} {c : Int32} {a1 a2 a3 a4 a5 a6 a7 a8 a9 a10 a11 a12 a13 a14 a15 : Nat → Int32} {f k a b : Nat} {o v s : Int32} (hf : f < 18) (h2 : 2 ≤ k) (h5 : k ≤ 5) (ha : a < 18) (hb : b < 18)
    (ea : o &&& 31 = nI a) (eb : (o >>> ((5 : Int32) &&& 31)) &&& 31 = nI b)
    (es : (0 ||| ((1 : Int32) <<< (nI a &&& 31))) ||| ((1 : Int32) <<< (nI b &&& 31)) = s)
    (h6 : ∀ j, j < 18 → ((s >>> (nI j &&& 31)) &&& 1) = 1 → a6 j = 0) (hs : ¬ ((s >>> (nI f &&& 31)) &&& 1) = 1)
    (G : mt_G (upd a1 f (nI k)) (upd a2 f (nI a)) (upd a3 f (nI b)) (upd a4 f 0) (upd a6 f s))
    (H : ∀ (r : Int32) (b7 b8 b9 b10 : Nat → Int32), (∀ j, j < 18 → b7 j = nI j) → mt_C (upd a1 f (nI k)) (upd a5 f v) b8 b9 b10 18 → post r (c, upd a1 f (nI k), upd a2 f (nI a), upd a3 f (nI b), upd a4 f 0, upd a5 f v, upd a6 f s, b7, b8, b9, b10, a11, a12, upd a13 f 1, a14, a15)) :
    wpX_define post (c, a1, a2, a3, a4, a5, a6, a7, a8, a9, a10, a11, a12, a13, a14, a15) (nI f) (nI k) o v := by
  unfold wpX_define
  refine mt_off hf (br_t rfl (br_f (nI_pos (by omega)) (br_t (nI_le (b := 8) (by omega) (by decide)) (nm_r ea (nm_r eb (nm_e (mt_bo1 h2 h5 ha hb (br_t rfl (mt_os1 h2 h5 ?_)))))))))
  rw [es]
  refine mt_closure h6 (br_f hs ⟨mt_in hf, nm_r (e' := upd a1 f (nI k)) (by rw [mt_cl hf]) (mt_A1 h2 h5 (br_f (by decide) ?_))⟩)
  refine ⟨mt_in hf, nm_r (e' := upd a2 f (nI a)) (by rw [mt_cl hf]) (mt_B1 h2 h5 (br_f (by decide) ⟨mt_in hf, nm_r (e' := upd a3 f (nI b)) (by rw [mt_cl hf]) (mt_S0 h5 (br_t rfl ?_))⟩))⟩
  exact mt_161 hf G H
end
section
/-! instants -/
/-- workAll: any picture w that constants and the works of the others meet -/
theorem mt_workAll {post : St2 → Prop} {c : Int32} {a1 a2 a3 a4 a5 a6 a7 a8 a9 a10 a11 a12 a13 a14 a15 : Nat → Int32} (w : Nat → Int32) (h7 : ∀ j, j < 18 → a7 j = nI j) (hC : mt_C a1 a5 a8 a9 a10 18)
    (hc : ∀ j, j < 18 → a1 j = 1 → a5 j = w j)
    (hw : ∀ j, j < 18 → ¬ a1 j = 1 → ∀ b14 : Nat → Int32, (∀ g, g < j → b14 g = w g) → ∀ q : Int32 → Prop, q (w j) → wpX_work q (c, a1, a2, a3, a4, a5, a6, a7, a8, a9, a10, a11, a12, a13, b14, a15) (nI j))
    (H : ∀ b14 : Nat → Int32, (∀ j, j < 18 → b14 j = w j) → post (c, a1, a2, a3, a4, a5, a6, a7, a8, a9, a10, a11, a12, a13, b14, a15)) : wpX_workAll post (c, a1, a2, a3, a4, a5, a6, a7, a8, a9, a10, a11, a12, a13, a14, a15) := by
  unfold wpX_workAll
  refine pk_loop (fun n i s => wX_workAll_2 post c n (nI i) a1 a2 a3 a4 a5 a6 a7 a8 a9 a10 a11 a12 a13 s a15) (fun i s => ∀ j, j < i → s j = w j) 18 0 a14 (by omega) (fun j hj => absurd hj (by omega)) ?_ ?_
  · intro n s h
    exact pk_le 18 18 (fun _ => H s h) (fun z => absurd z (by omega))
  · intro n i s hi h ih
    obtain ⟨t8, t9, t10⟩ := hC i hi
    refine pk_le 18 i (fun z => absurd z (by omega)) (fun _ => ⟨mt_in hi, nm_r (e' := nI i) (by rw [mt_cl hi, h7 i hi]) ⟨mt_in hi, ?_⟩⟩)
    rw [mt_cl hi]
    by_cases e : a1 i = 1
    · refine br_f ?_ ⟨mt_in hi, mt_in hi, nm_e (nm_r (nI_1 i) (ih _ (mt_fill h ?_)))⟩
      · rw [t8, e]; decide
      · rw [t9 e]
        exact hc i hi e
    · refine br_t ?_ ⟨mt_in hi, br_t t10 ?_⟩
      · rw [t8]
        exact if_neg e
      · exact hw i hi e s h _ ⟨mt_in hi, nm_e (nm_r (nI_1 i) (ih _ (mt_fill h rfl)))⟩
/-- finish without memories: last takes working -/
theorem mt_finish {post : St2 → Prop} {c : Int32} {a1 a2 a3 a4 a5 a6 a7 a8 a9 a10 a11 a12 a13 a14 a15 : Nat → Int32} (n7 : ∀ j, j < 18 → ¬ a1 j = 7) (n8 : ∀ j, j < 18 → ¬ a1 j = 8)
    (H : ∀ b13 b15 : Nat → Int32, (∀ j, j < 18 → b15 j = a14 j) → post (c + 1, a1, a2, a3, a4, a5, a6, a7, a8, a9, a10, a11, a12, b13, a14, b15)) : wpX_finish post (c, a1, a2, a3, a4, a5, a6, a7, a8, a9, a10, a11, a12, a13, a14, a15) := by
  unfold wpX_finish
  refine pk_loop (σ := (Nat → Int32) × (Nat → Int32)) (fun n i s => wX_finish_2 post c n (nI i) a1 a2 a3 a4 a5 a6 a7 a8 a9 a10 a11 a12 s.1 a14 s.2) (fun i s => ∀ j, j < i → s.2 j = a14 j) 18 0 (a13, a15) (by omega) (fun j hj => absurd hj (by omega)) ?_ ?_
  · intro n s h
    exact pk_le 18 18 (fun _ => nm_e (H s.1 s.2 h)) (fun z => absurd z (by omega))
  · intro n i s hi h ih
    refine pk_le 18 i (fun z => absurd z (by omega)) (fun _ => ⟨mt_in hi, br_f ?_ ⟨mt_in hi, br_f ?_ ⟨mt_in hi, mt_in hi, nm_e ⟨mt_in hi, nm_e (nm_r (nI_1 i) (ih (_, _) ?_))⟩⟩⟩⟩)
    · rw [mt_cl hi]; exact n7 i hi
    · rw [mt_cl hi]; exact n8 i hi
    · rw [mt_cl hi]
      exact mt_fill h rfl
theorem mt_next {post : Int32 → St2 → Prop} {c : Int32} {a1 a2 a3 a4 a5 a6 a7 a8 a9 a10 a11 a12 a13 a14 a15 : Nat → Int32} {f : Nat} (hf : f < 18) (w : Nat → Int32) (h7 : ∀ j, j < 18 → a7 j = nI j) (hC : mt_C a1 a5 a8 a9 a10 18)
    (hc : ∀ j, j < 18 → a1 j = 1 → a5 j = w j)
    (hw : ∀ j, j < 18 → ¬ a1 j = 1 → ∀ b14 : Nat → Int32, (∀ g, g < j → b14 g = w g) → ∀ q : Int32 → Prop, q (w j) → wpX_work q (c, a1, a2, a3, a4, a5, a6, a7, a8, a9, a10, a11, a12, a13, b14, a15) (nI j))
    (H : ∀ b14 : Nat → Int32, (∀ j, j < 18 → b14 j = w j) → post (w f) (c, a1, a2, a3, a4, a5, a6, a7, a8, a9, a10, a11, a12, a13, b14, a15)) : wpX_next post (c, a1, a2, a3, a4, a5, a6, a7, a8, a9, a10, a11, a12, a13, a14, a15) (nI f) := by
  unfold wpX_next
  refine mt_off hf (br_t rfl (mt_workAll w h7 hC hc hw (fun b14 h => ⟨mt_in hf, ?_⟩)))
  rw [mt_cl hf, h f hf]
  exact H b14 h
theorem mt_step {post : Int32 → St2 → Prop} {c : Int32} {a1 a2 a3 a4 a5 a6 a7 a8 a9 a10 a11 a12 a13 a14 a15 : Nat → Int32} (w : Nat → Int32) (h7 : ∀ j, j < 18 → a7 j = nI j) (hC : mt_C a1 a5 a8 a9 a10 18)
    (hc : ∀ j, j < 18 → a1 j = 1 → a5 j = w j)
    (hw : ∀ j, j < 18 → ¬ a1 j = 1 → ∀ b14 : Nat → Int32, (∀ g, g < j → b14 g = w g) → ∀ q : Int32 → Prop, q (w j) → wpX_work q (c, a1, a2, a3, a4, a5, a6, a7, a8, a9, a10, a11, a12, a13, b14, a15) (nI j))
    (n7 : ∀ j, j < 18 → ¬ a1 j = 7) (n8 : ∀ j, j < 18 → ¬ a1 j = 8)
    (H : ∀ b13 b14 b15 : Nat → Int32, (∀ j, j < 18 → b15 j = w j) → post (c + 1) (c + 1, a1, a2, a3, a4, a5, a6, a7, a8, a9, a10, a11, a12, b13, b14, b15)) : wpX_step post (c, a1, a2, a3, a4, a5, a6, a7, a8, a9, a10, a11, a12, a13, a14, a15) 1 := by
  refine br_t (by decide) ⟨0 + 1 + 1, br_f (by decide) (mt_workAll w h7 hC hc hw (fun b14 h => mt_finish n7 n8 (fun b13 b15 h' => nm_e (br_t (by decide) ?_))))⟩
  exact H b13 b14 b15 (fun j hj => (h' j hj).trans (h j hj))
theorem mt_value {post : Int32 → Prop} {c : Int32} {a1 a2 a3 a4 a5 a6 a7 a8 a9 a10 a11 a12 a13 a14 a15 : Nat → Int32} {f : Nat} (hf : f < 18) (H : post (a15 f)) : wpX_value post (c, a1, a2, a3, a4, a5, a6, a7, a8, a9, a10, a11, a12, a13, a14, a15) (nI f) := by
  unfold wpX_value
  refine mt_off hf (br_t rfl ⟨mt_in hf, ?_⟩)
  rw [mt_cl hf]
  exact H
theorem mt_needs {post : Int32 → Prop} {c : Int32} {a1 a2 a3 a4 a5 a6 a7 a8 a9 a10 a11 a12 a13 a14 a15 : Nat → Int32} {f g : Nat} (hf : f < 18) (hg : g < 18) (h : ∀ j, j < 18 → ((a6 f >>> (nI j &&& 31)) &&& 1) = 1 → a6 j = 0)
    (H1 : ((a6 f >>> (nI g &&& 31)) &&& 1) = 1 → post 1) (H0 : ¬ ((a6 f >>> (nI g &&& 31)) &&& 1) = 1 → post 0) : wpX_needs post (c, a1, a2, a3, a4, a5, a6, a7, a8, a9, a10, a11, a12, a13, a14, a15) (nI f) (nI g) := by
  unfold wpX_needs
  refine mt_off hf (br_t rfl (mt_off hg (br_t rfl ⟨mt_in hf, ?_⟩)))
  rw [mt_cl hf]
  exact mt_closure h (br_c H1 H0)
theorem mt_input {post : Int32 → St2 → Prop} {c : Int32} {a1 a2 a3 a4 a5 a6 a7 a8 a9 a10 a11 a12 a13 a14 a15 : Nat → Int32} {p v : Int32} (hp : p &&& 3 = nI 1) (H : ∀ r : Int32, post r (c, a1, a2, a3, a4, a5, a6, a7, a8, a9, a10, upd a11 1 v, a12, a13, a14, a15)) : wpX_input post (c, a1, a2, a3, a4, a5, a6, a7, a8, a9, a10, a11, a12, a13, a14, a15) p v := by
  have e : (p &&& 3).toNatClampNeg = 1 := pk_cl 1 hp
  have i1 : vp_in (p &&& 3) 4 := pk_in 1 4 (by decide) hp
  refine ⟨i1, nm_e ⟨i1, nm_r (e' := upd a11 1 v) (by rw [e]) (H _)⟩⟩
end
section
/-! the making -/
theorem mt_uz (k : Nat) : upd (fun _ => (0 : Int32)) k 0 = fun _ => 0 := by
  funext j
  unfold upd
  split <;> rfl
theorem mt_i0 : vp_in (0 : Int32) 18 := mt_in (j := 0) (by decide)
theorem mt_init {post : St2 → Prop} {c : Int32}
    (H : ∀ b1 b7 b8 b9 b10 b13 : Nat → Int32, (∀ j, j < 18 → b1 j = 1) → post (c, b1, fun _ => 0, fun _ => 0, fun _ => 0, fun _ => 0, fun _ => 0, b7, b8, b9, b10, fun _ => 0, fun _ => 0, b13, fun _ => 0, fun _ => 0)) :
    wpX_init post 15 256 c := by
  unfold wpX_init
  refine ⟨by omega, by omega, by omega, by omega, by omega, by omega, by omega, by omega, by omega, by omega, by omega, by omega, by omega, by omega, by omega, by omega, by omega, by omega, by omega, by omega, by omega, by omega, by omega, by omega, by omega, by omega, by omega, by omega, by omega, by omega, ?_⟩
  refine pk_loop (σ := (Nat → Int32) × (Nat → Int32)) (fun n i s => wX_init_125 post 15 256 15 256 c n (nI i) s.1 (fun _ => 0) (fun _ => 0) (fun _ => 0) (fun _ => 0) (fun _ => 0) (fun _ => 0) (fun _ => 0) (fun _ => 0) (fun _ => 0) (fun _ => 0) (fun _ => 0) s.2 (fun _ => 0) (fun _ => 0)) (fun i s => ∀ j, j < i → s.1 j = 1) 18 0 (fun _ => 0, fun _ => 0) (by omega) (fun j hj => absurd hj (by omega)) ?_ ?_
  · intro n s h
    refine pk_le 18 18 (fun _ => mt_compile ?_ (fun b7 b8 b9 b10 _ _ => H s.1 b7 b8 b9 b10 s.2 h)) (fun z => absurd z (by omega))
    exact fun j hj => ⟨mt_i0, mt_i0, mt_i0, mt_and0 _, Or.inl (h j hj)⟩
  · intro n i s hi h ih
    refine pk_le 18 i (fun z => absurd z (by omega)) (fun _ => ⟨mt_in hi, nm_e ⟨mt_in hi, nm_e (nm_r (nI_1 i) (ih (_, _) ?_))⟩⟩)
    rw [mt_cl hi]
    exact mt_fill (f := fun _ => 1) h rfl
/-! the good definitions that the law makes -/
theorem mt_G4 {b : Nat → Int32} (hb : ∀ j, j < 18 → b j = if j = 4 then 0 else 1) : mt_G b (fun _ => 0) (fun _ => 0) (fun _ => 0) (fun _ => 0) := by
  intro j hj
  refine ⟨mt_i0, mt_i0, mt_i0, mt_and0 _, ?_⟩
  by_cases e : j = 4
  · have t : b j = 0 := (hb j hj).trans (if_pos e)
    refine Or.inr ⟨Or.inl t, fun g hg => ?_⟩
    rw [t, hb g (by omega), if_neg (by omega)]
    decide
  · exact Or.inl ((hb j hj).trans (if_neg e))
theorem mt_G6 {b : Nat → Int32} {k : Nat} (h2 : 2 ≤ k) (h5 : k ≤ 5) (hb : ∀ j, j < 18 → b j = if j = 4 then 0 else if j = 6 then nI k else 1) : mt_G b (upd (fun _ => 0) 6 (nI 4)) (upd (fun _ => 0) 6 (nI 5)) (fun _ => 0) (upd (fun _ => 0) 6 48) := by
  intro j hj
  by_cases e6 : j = 6
  · rw [e6, pk_us, pk_us, pk_us]
    have t : b 6 = nI k := (hb 6 (by omega)).trans rfl
    refine ⟨mt_in (by omega), mt_in (by omega), mt_i0, by decide, Or.inr ⟨Or.inr ⟨k, h2, h5, t, rfl, (hb 4 (by omega)).trans rfl, by omega⟩, fun g hg => ?_⟩⟩
    rw [t, hb g (by omega)]
    by_cases e : g = 4
    · rw [if_pos e]
      exact fun z => mt_ne (k := 0) (m := k) (by omega) (by omega) z
    · rw [if_neg e, if_neg (by omega)]
      exact fun z => mt_ne (k := 1) (m := k) (by omega) (by omega) z
  · rw [pk_un e6, pk_un e6, pk_un e6]
    refine ⟨mt_i0, mt_i0, mt_i0, mt_and0 _, ?_⟩
    by_cases e : j = 4
    · have t : b j = 0 := (hb j hj).trans (if_pos e)
      refine Or.inr ⟨Or.inl t, fun g hg => ?_⟩
      rw [t, hb g (by omega), if_neg (by omega), if_neg (by omega)]
      decide
    · exact Or.inl ((hb j hj).trans ((if_neg e).trans (if_neg e6)))
/-! the law's tail -/
/-- what the law's three definitions say at flow 6 -/
def mt_v (k : Nat) (x y : Int32) : Int32 := if k = 2 then x + y else if k = 3 then x - y else if k = 4 then x * y else if y ≤ x then 0 else 1
/-- the working values -/
def mt_w (x y v : Int32) (j : Nat) : Int32 := if j = 4 then x else if j = 5 then y else if j = 6 then v else 0
theorem mt_work4 {q : Int32 → Prop} {c : Int32} {a1 a2 a3 a4 a5 a6 a7 a8 a9 a10 a11 a12 a13 a14 a15 : Nat → Int32} {x : Int32} (h1 : a1 4 = 0) (h5 : a5 4 = 1) (h11 : a11 1 = x) (H : q x) : wpX_work q (c, a1, a2, a3, a4, a5, a6, a7, a8, a9, a10, a11, a12, a13, a14, a15) (nI 4) := by
  have e5 : a5 (nI 4).toNatClampNeg &&& 3 = nI 1 := by
    rw [mt_cl (by omega), h5]
    decide
  refine ⟨mt_in (by omega), nm_r (e' := 0) (by rw [mt_cl (by omega), h1]) (br_t rfl ⟨mt_in (by omega), pk_in 1 4 (by omega) e5, ?_⟩)⟩
  rw [pk_cl 1 e5, h11]
  exact H
theorem mt_work6 {q : Int32 → Prop} {c : Int32} {a1 a2 a3 a4 a5 a6 a7 a8 a9 a10 a11 a12 a13 a14 a15 : Nat → Int32} {x y : Int32} {k : Nat} (h2 : 2 ≤ k) (h5 : k ≤ 5) (h1 : a1 6 = nI k) (h26 : a2 6 = nI 4) (h36 : a3 6 = nI 5) (h46 : a4 6 = nI 0) (hx : a14 4 = x) (hy : a14 5 = y) (H : q (mt_v k x y)) : wpX_work q (c, a1, a2, a3, a4, a5, a6, a7, a8, a9, a10, a11, a12, a13, a14, a15) (nI 6) := by
  have e6 : (nI 6).toNatClampNeg = 6 := mt_cl (by omega)
  have e2 : a2 (nI 6).toNatClampNeg = nI 4 := by rw [e6, h26]
  have e3 : a3 (nI 6).toNatClampNeg = nI 5 := by rw [e6, h36]
  have e4 : a4 (nI 6).toNatClampNeg = nI 0 := by rw [e6, h46]
  refine ⟨mt_in (by omega), nm_r (e' := nI k) (by rw [e6, h1]) (br_f (nI_ne0 (by omega) (by omega)) (br_f (mt_ne (m := 7) (by omega) (by decide)) ⟨mt_in (by omega), pk_in 4 18 (by omega) e2, nm_r (e' := x) ?_ ⟨mt_in (by omega), pk_in 0 18 (by omega) e4, nm_e (br_f (mt_ne (m := 8) (by omega) (by decide)) ⟨mt_in (by omega), pk_in 5 18 (by omega) e3, mt_combine h2 h5 ?_⟩)⟩⟩))⟩
  · rw [e2, mt_cl (by omega), hx]
  · rw [e3, mt_cl (by omega), hy]
    exact H
theorem mt_104 {post : Int32 → St0 → Prop} {mc ms kc ks : Nat} {c : Int32} {a1 a2 a3 a4 a5 a6 a7 a8 a9 a10 a11 a12 a13 a14 a15 : Nat → Int32} {k : Nat} {x y d v : Int32} (h2 : 2 ≤ k) (h5 : k ≤ 5) (hc0 : c = 0)
    (h1 : ∀ j, j < 18 → a1 j = if j = 4 then 0 else if j = 6 then nI k else 1)
    (h26 : a2 6 = nI 4) (h36 : a3 6 = nI 5) (h46 : a4 6 = nI 0) (h54 : a5 4 = 1) (h55 : ∀ j, j < 18 → j ≠ 4 → j ≠ 6 → a5 j = if j = 5 then y else 0)
    (h66 : a6 6 = 48) (h6 : ∀ j, j < 6 → a6 j = 0) (h7 : ∀ j, j < 18 → a7 j = nI j) (hC : mt_C a1 a5 a8 a9 a10 18)
    (h11 : a11 1 = x) (h15 : a15 6 = 0) (hv : v = mt_v k x y) (H : post 1 ()) : wL_lawOf_104 post mc ms x d v kc ks c a1 a2 a3 a4 a5 a6 a7 a8 a9 a10 a11 a12 a13 a14 a15 := by
  have nk : ¬ nI k = 1 := fun z => mt_ne (k := 1) (m := k) (by omega) (by omega) z.symm
  have h14 : a1 4 = 0 := (h1 4 (by omega)).trans rfl
  have h16 : a1 6 = nI k := (h1 6 (by omega)).trans rfl
  have hc : ∀ j, j < 18 → a1 j = 1 → a5 j = mt_w x y v j := by
    intro j hj e
    by_cases e4 : j = 4
    · rw [e4, h14] at e
      exact absurd e (by decide)
    · by_cases e6 : j = 6
      · rw [e6, h16] at e
        exact absurd e nk
      · rw [h55 j hj e4 e6]
        unfold mt_w
        rw [if_neg e4, if_neg e6]
  have hw : ∀ (b11 : Nat → Int32), b11 1 = x → ∀ (c' : Int32) (b13 b15 : Nat → Int32), ∀ j, j < 18 → ¬ a1 j = 1 → ∀ b14 : Nat → Int32, (∀ g, g < j → b14 g = mt_w x y v g) → ∀ q : Int32 → Prop, q (mt_w x y v j) → wpX_work q (c', a1, a2, a3, a4, a5, a6, a7, a8, a9, a10, b11, a12, b13, b14, b15) (nI j) := by
    intro b11 hb c' b13 b15 j hj e b14 hg q hq
    by_cases e4 : j = 4
    · subst e4
      exact mt_work4 h14 h54 hb hq
    · by_cases e6 : j = 6
      · subst e6
        refine mt_work6 h2 h5 h16 h26 h36 h46 (hg 4 (by omega)) (hg 5 (by omega)) ?_
        have t : mt_w x y v 6 = mt_v k x y := (show mt_w x y v 6 = v from rfl).trans hv
        rw [t] at hq
        exact hq
      · exact absurd ((h1 j hj).trans ((if_neg e4).trans (if_neg e6))) e
  have n78 : ∀ m, 6 < m → m < 9 → ∀ j, j < 18 → ¬ a1 j = nI m := by
    intro m m6 m9 j hj
    rw [h1 j hj]
    by_cases e4 : j = 4
    · rw [if_pos e4]
      exact fun z => mt_ne (k := 0) (m := m) (by omega) (by omega) z
    · rw [if_neg e4]
      by_cases e6 : j = 6
      · rw [if_pos e6]
        exact mt_ne (by omega) (by omega)
      · rw [if_neg e6]
        exact fun z => mt_ne (k := 1) (m := m) (by omega) (by omega) z
  unfold wL_lawOf_104
  refine mt_next (f := 6) (by omega) (mt_w x y v) h7 hC hc (hw a11 h11 c a13 a15) (fun b14 t14 => ?_)
  refine br_t rfl (mt_value (f := 6) (by omega) (br_t h15 ?_))
  refine mt_step (mt_w x y v) h7 hC hc (hw a11 h11 c a13 a15) (n78 7 (by omega) (by omega)) (n78 8 (by omega) (by omega)) (fun b13 b14 b15 t15 => ?_)
  refine br_t (by rw [hc0]; decide) (mt_input (p := 1) (by decide) (fun r => ?_))
  refine mt_value (f := 6) (by omega) (br_t (t15 6 (by omega)) ?_)
  refine mt_value (f := 4) (by omega) (br_t (t15 4 (by omega)) ?_)
  refine mt_needs (f := 6) (g := 4) (by omega) (by omega) (fun j hj z => ?_) (fun _ => br_f (by decide) ?_) (fun z => ?_)
  · rw [h66] at z
    rcases mt_48 j hj z with e | e
    · exact h6 j (by omega)
    · exact h6 j (by omega)
  · have e4 : a6 4 = 0 := h6 4 (by omega)
    refine mt_needs (f := 4) (g := 6) (by omega) (by omega) (fun j hj z => ?_) (fun z => ?_) (fun _ => br_t rfl H)
    · rw [e4] at z
      exact (mt_00 j hj z).elim
    · rw [e4] at z
      exact (mt_00 6 (by omega) z).elim
  · rw [h66] at z
    exact absurd (by decide) z
end
section
/-! the law -/
theorem mt_lawOf {post : Int32 → St0 → Prop} (p0 x y d : Int32) (H : post 1 ()) : wpL_lawOf post 16 272 () p0 x y d := by
  unfold wpL_lawOf
  refine ⟨by omega, by omega, 15, 256, by omega, by omega, mt_init (fun b1 b7 b8 b9 b10 b13 h1 => ?_)⟩
  obtain ⟨i, hi, e⟩ := pk_andE p0 (m := 3) 2 (by decide)
  have hi4 : i < 4 := hi
  have k1 : ∀ j, j < 18 → upd b1 4 (nI 0) j = if j = 4 then 0 else 1 := by
    intro j hj
    by_cases z : j = 4
    · rw [if_pos z, z, pk_us]
      rfl
    · rw [if_neg z, pk_un z, h1 j hj]
  have k2 : ∀ j, j < 18 → upd (upd b1 4 (nI 0)) 5 (nI 1) j = if j = 4 then 0 else 1 := by
    intro j hj
    by_cases z : j = 5
    · rw [if_neg (by omega), z, pk_us]
      rfl
    · rw [pk_un z, k1 j hj]
  have k3 : ∀ j, j < 18 → upd (upd (upd b1 4 (nI 0)) 5 (nI 1)) 6 (nI (2 + i)) j = if j = 4 then 0 else if j = 6 then nI (2 + i) else 1 := by
    intro j hj
    by_cases z : j = 6
    · rw [if_neg (by omega), if_pos z, z, pk_us]
    · rw [pk_un z, k2 j hj, if_neg z]
  refine nm_r (e' := nI (2 + i)) (by rw [e]; exact nI_add 2 i) ?_
  refine mt_dlow (f := 4) (k := 0) (by omega) (by omega) ?_ (fun r1 c7 c8 c9 c10 _ _ => ?_)
  · rw [mt_uz]
    exact mt_G4 k1
  refine mt_dlow (f := 5) (k := 1) (by omega) (by omega) ?_ (fun r2 d7 d8 d9 d10 _ _ => ?_)
  · rw [mt_uz, mt_uz]
    exact mt_G4 k2
  refine mt_dhigh (f := 6) (k := 2 + i) (a := 4) (b := 5) (s := 48) (by omega) (by omega) (by omega) (by omega) (by omega) (by decide) (by decide) (by decide) ?_ (by decide) ?_ (fun r3 e7 e8 e9 e10 t7 tC => ?_)
  · intro j hj _
    rw [mt_uz, mt_uz]
  · rw [mt_uz, mt_uz, mt_uz]
    exact mt_G6 (by omega) (by omega) k3
  refine mt_input (p := 5) (by decide) (fun r4 => ?_)
  have key : ∀ v, v = mt_v (2 + i) x y → wL_lawOf_104 post 16 272 x d v (1 + 15) (16 + 256) 0 (upd (upd (upd b1 4 (nI 0)) 5 (nI 1)) 6 (nI (2 + i))) (upd (upd (upd (fun _ => 0) 4 0) 5 0) 6 (nI 4)) (upd (upd (upd (fun _ => 0) 4 0) 5 0) 6 (nI 5)) (upd (upd (upd (fun _ => 0) 4 0) 5 0) 6 0) (upd (upd (upd (fun _ => 0) 4 1) 5 y) 6 d) (upd (upd (upd (fun _ => 0) 4 0) 5 0) 6 48) e7 e8 e9 e10 (upd (fun _ => 0) 1 x) (fun _ => 0) (upd (upd (upd b13 4 1) 5 1) 6 1) (fun _ => 0) (fun _ => 0) := by
    intro v hv
    refine mt_104 (k := 2 + i) (y := y) (by omega) (by omega) rfl k3 pk_us pk_us pk_us rfl ?_ pk_us ?_ t7 tC pk_us rfl hv H
    · intro j hj n4 n6
      rw [pk_un n6]
      by_cases z : j = 5
      · rw [if_pos z, z, pk_us]
      · rw [if_neg z, pk_un z, pk_un n4]
    · intro j hj
      rw [pk_un (by omega), mt_uz, mt_uz]
  refine pk_eq (2 + i) 2 (fun z => key _ ?_) (fun z2 => ?_)
  · unfold mt_v
    rw [if_pos z]
  refine pk_eq (2 + i) 3 (fun z => key _ ?_) (fun z3 => ?_)
  · unfold mt_v
    rw [if_neg z2, if_pos z]
  refine pk_eq (2 + i) 4 (fun z => key _ ?_) (fun z4 => ?_)
  · unfold mt_v
    rw [if_neg z2, if_neg z3, if_pos z]
  refine br_c (fun g => key _ ?_) (fun g => key _ ?_)
  · unfold mt_v
    rw [if_neg z2, if_neg z3, if_neg z4, if_pos g]
  · unfold mt_v
    rw [if_neg z2, if_neg z3, if_neg z4, if_neg g]
theorem mt_cell {post : Int32 → Prop} {L : Nat} {xs : Nat → Int32} (hL : L ≤ 4) (i : Nat) (hi : i < 4) (H : ∀ v, post v) : wpL_cellAt post L xs () (nI i) :=
  pk_le L i (fun _ => H 0) (fun z => ⟨vp_in_nI z (by omega), H _⟩)
theorem i_vc (xs : Nat → Int32) (L : Nat) (hL : L ≤ 4) : wpL_law (fun r => r = 1) L xs := by
  unfold wpL_law
  exact mt_cell hL 0 (by omega) (fun p0 => mt_cell hL 1 (by omega) (fun x => mt_cell hL 2 (by omega) (fun y => mt_cell hL 3 (by omega) (fun d => ⟨16, 272, by omega, by omega, mt_lawOf p0 x y d rfl⟩))))
end
