section
/-- the state of a market with no job: capacity c, rooms r, no job used, none seated, no load -/
def sm_P (c : Nat) (r : Nat → Int32) : St2 → Prop
  | (f0, f1, f2, f3, f4, a1, a2, a3, a4, a5, a6, a7, a8, a9, a10, a11, a12, a13, a14, a15) => f0 = nI c ∧ a5 = r ∧ (1 ≤ c ∧ c ≤ 7) ∧ (∀ j, j < 8 → a1 j = 0) ∧ (∀ j, j < 8 → a6 j = -1) ∧ (∀ j, j < 12 → a7 j = 0)
/-- the saved placement is the empty one -/
def sm_S : St2 → Prop
  | (f0, f1, f2, f3, f4, a1, a2, a3, a4, a5, a6, a7, a8, a9, a10, a11, a12, a13, a14, a15) => (∀ j, j < 8 → a11 j = -1) ∧ (∀ j, j < 12 → a12 j = 0)
/-- job 0 is brought with the window lo .. hi, not yet seated -/
def sm_Q (c lo hi : Nat) (r : Nat → Int32) : St2 → Prop
  | (f0, f1, f2, f3, f4, a1, a2, a3, a4, a5, a6, a7, a8, a9, a10, a11, a12, a13, a14, a15) => f0 = nI c ∧ a5 = r ∧ (1 ≤ c ∧ c ≤ 7) ∧ (a1 0 = 1 ∧ ∀ j, 1 ≤ j → j < 8 → a1 j = 0) ∧ a2 0 = nI lo ∧ a3 0 = nI hi ∧ (∀ j, j < 8 → a6 j = -1) ∧ (∀ j, j < 12 → a7 j = 0)
/-- job 0 and no other is used -/
def sm_R (c : Nat) : St2 → Prop
  | (f0, f1, f2, f3, f4, a1, a2, a3, a4, a5, a6, a7, a8, a9, a10, a11, a12, a13, a14, a15) => f0 = nI c ∧ (1 ≤ c ∧ c ≤ 7) ∧ (a1 0 = 1 ∧ ∀ j, 1 ≤ j → j < 8 → a1 j = 0)
/-- the last search reached job 0 alone -/
def sm_E : St2 → Prop
  | (f0, f1, f2, f3, f4, a1, a2, a3, a4, a5, a6, a7, a8, a9, a10, a11, a12, a13, a14, a15) => a8 0 = 1 ∧ ∀ j, 1 ≤ j → j < 8 → a8 j = 0
/-- p, clamped to 0 .. 3, is n (in the form in which the code asks) -/
def sm_N (p : Int32) (n : Nat) : Prop := ∀ K : Int32 → Prop, K (nI n) → ((0 ≤ p → ((p ≤ 3 → K p) ∧ (¬ p ≤ 3 → K 3))) ∧ (¬ 0 ≤ p → K 0))
/-- p, clamped to 1 .. 7, is c -/
def sm_C (p : Int32) (c : Nat) : Prop := ∀ K : Int32 → Prop, K (nI c) → ((1 ≤ p → ((p ≤ 7 → K p) ∧ (¬ p ≤ 7 → K 7))) ∧ (¬ 1 ≤ p → K 1))
theorem sm_N_ex (p : Int32) : ∃ n, n ≤ 3 ∧ sm_N p n := by
  by_cases h0 : 0 ≤ p
  · by_cases h3 : p ≤ 3
    · obtain ⟨j, hj, rfl⟩ := nI_of2 (M := 3) (n := 3) (by decide) (Int32.not_lt.mpr h0) h3
      exact ⟨j, hj, fun K k => br_t h0 (br_t h3 k)⟩
    · exact ⟨3, Nat.le_refl 3, fun K k => br_t h0 (br_f h3 k)⟩
  · exact ⟨0, by omega, fun K k => br_f h0 k⟩
theorem sm_C_ex (p : Int32) : ∃ c, (1 ≤ c ∧ c ≤ 7) ∧ sm_C p c := by
  by_cases h0 : 1 ≤ p
  · by_cases h3 : p ≤ 7
    · have hp : ¬ p < 0 := fun z => by
        rw [Int32.lt_iff_toInt_lt] at z
        rw [Int32.le_iff_toInt_le] at h0
        have e0 : (0 : Int32).toInt = 0 := by decide
        have e1 : (1 : Int32).toInt = 1 := by decide
        omega
      obtain ⟨j, hj, rfl⟩ := nI_of2 (M := 7) (n := 7) (by decide) hp h3
      have h1 : 1 ≤ j := (nI_leI (a := 1) (b := j) (by omega) (by omega)).mp h0
      exact ⟨j, ⟨h1, hj⟩, fun K k => br_t h0 (br_t h3 k)⟩
    · exact ⟨7, ⟨by omega, by omega⟩, fun K k => br_t h0 (br_f h3 k)⟩
  · exact ⟨1, ⟨by omega, by omega⟩, fun K k => br_f h0 k⟩
theorem sm_fill {f s : Nat → Int32} {i k : Nat} {x : Int32} (hk : k = i) (h : ∀ j, j < i → s j = f j) (hx : x = f i) : ∀ j, j < i + 1 → upd s k x j = f j := by
  intro j hj
  rw [hk]
  by_cases e : j = i
  · rw [e, pk_us, hx]
  · rw [pk_un e]
    exact h j (by omega)
theorem sm_uu (r : Nat → Int32) (k : Nat) (x y : Int32) (h : y = r k) : upd (upd r k x) k y = r := by
  funext j
  by_cases e : j = k
  · rw [e, pk_us, h]
  · rw [pk_un e, pk_un e]
theorem sm_b12 : ∀ t, t < 12 → (nI t).toInt8.toInt32 = nI t := by decide +kernel
theorem sm_dn : ∀ n, n ≤ 3 → 0 < n → ¬ (nI n - 1).toInt8.toInt32 < 0 ∧ ((nI n - 1).toInt8.toInt32 + 1).toInt8.toInt32 = nI n := by decide +kernel
theorem sm_up : ∀ n, n ≤ 3 → ((nI n + 1).toInt8.toInt32 - 1).toInt8.toInt32 = nI n := by decide +kernel
theorem sm_in (x : Int32) : (x < 0 ∨ 11 < x) ∨ ∃ k, k < 12 ∧ x = nI k := by
  by_cases h0 : x < 0
  · exact Or.inl (Or.inl h0)
  · by_cases h1 : 11 < x
    · exact Or.inl (Or.inr h1)
    · obtain ⟨j, hj, e⟩ := nI_of2 (M := 11) (n := 11) (by decide) h0 (Int32.not_lt.mp h1)
      exact Or.inr ⟨j, by omega, e⟩
end
section
section
variable {post : St2 → Prop} {f0 f1 f2 f3 f4 : Int32} {a1 a2 a3 a4 a5 a6 a7 a8 a9 a10 a11 a12 a13 a14 a15 : Nat → Int32} {u : St2} {c n : Nat} {r : Nat → Int32}
theorem sm_init196 {mc ms kc ks : Nat} (H : ∀ b, (∀ j, j < 8 → b j = -1) → post (f0, f1, f2, f3, f4, a1, a2, a3, a4, a5, b, a7, a8, a9, a10, a11, a12, a13, a14, a15)) : ∃ n, wX_init_196 post mc ms kc ks f0 f1 f2 f3 f4 n 0 a1 a2 a3 a4 a5 a6 a7 a8 a9 a10 a11 a12 a13 a14 a15 :=
  pk_loop (fun n i s => wX_init_196 post mc ms kc ks f0 f1 f2 f3 f4 n (nI i) a1 a2 a3 a4 a5 s a7 a8 a9 a10 a11 a12 a13 a14 a15) (fun i s => ∀ j, j < i → s j = (fun _ => -1) j) 8 0 a6 (by omega) (fun j hj => absurd hj (by omega))
    (fun n s h => pk_le 8 8 (fun _ => H s h) (fun z => absurd z (by omega)))
    (fun n i s hi h hw => pk_le 8 i (fun z => absurd z (by omega)) (fun _ => ⟨pk_in i 8 (by omega), nm_e (nm_r (nI_1 i) (hw _ (sm_fill (nI_clamp (by omega)) h rfl)))⟩))
theorem sm_init171 {mc ms kc ks : Nat} (hn : n ≤ 3) (H : ∀ b d, (∀ j, j < 12 → b j = nI n) → (∀ j, j < 8 → d j = -1) → post (f0, f1, f2, f3, f4, a1, a2, a3, a4, b, d, a7, a8, a9, a10, a11, a12, a13, a14, a15)) : ∃ m, wX_init_171 post mc ms (nI n) kc ks f0 f1 f2 f3 f4 m 0 a1 a2 a3 a4 a5 a6 a7 a8 a9 a10 a11 a12 a13 a14 a15 :=
  pk_loop (fun m i s => wX_init_171 post mc ms (nI n) kc ks f0 f1 f2 f3 f4 m (nI i) a1 a2 a3 a4 s a6 a7 a8 a9 a10 a11 a12 a13 a14 a15) (fun i s => ∀ j, j < i → s j = (fun _ => nI n) j) 12 0 a5 (by omega) (fun j hj => absurd hj (by omega))
    (fun m s h => pk_le 12 12 (fun _ => sm_init196 (fun d hd => H s d h hd)) (fun z => absurd z (by omega)))
    (fun m i s hi h hw => pk_le 12 i (fun z => absurd z (by omega)) (fun _ => ⟨pk_in i 12 (by omega), nm_e (nm_r (nI_1 i) (hw _ (sm_fill (nI_clamp (by omega)) h (sm_b12 n (by omega)))))⟩))
theorem sm_save28 (H : ∀ b, (∀ j, j < 12 → b j = vp_nar .byte (a7 j)) → post (f0, f1, f2, f3, f4, a1, a2, a3, a4, a5, a6, a7, a8, a9, a10, a11, b, a13, a14, a15)) : ∃ n, wX_save_28 post f0 f1 f2 f3 f4 n 0 a1 a2 a3 a4 a5 a6 a7 a8 a9 a10 a11 a12 a13 a14 a15 :=
  pk_loop (fun n i s => wX_save_28 post f0 f1 f2 f3 f4 n (nI i) a1 a2 a3 a4 a5 a6 a7 a8 a9 a10 a11 s a13 a14 a15) (fun i s => ∀ j, j < i → s j = vp_nar .byte (a7 j)) 12 0 a12 (by omega) (fun j hj => absurd hj (by omega))
    (fun n s h => pk_le 12 12 (fun _ => H s h) (fun z => absurd z (by omega)))
    (fun n i s hi h hw => pk_le 12 i (fun z => absurd z (by omega)) (fun _ => ⟨pk_in i 12 (by omega), pk_in i 12 (by omega), nm_e (nm_r (nI_1 i) (hw _ (sm_fill (f := fun j => vp_nar .byte (a7 j)) (nI_clamp (by omega)) h (by rw [nI_clamp (by omega)]))))⟩))
theorem sm_save2 (H : ∀ b d, (∀ j, j < 8 → b j = vp_nar .byte (a6 j)) → (∀ j, j < 12 → d j = vp_nar .byte (a7 j)) → post (f0, f1, f2, f3, f4, a1, a2, a3, a4, a5, a6, a7, a8, a9, a10, b, d, a13, a14, a15)) : ∃ n, wX_save_2 post f0 f1 f2 f3 f4 n 0 a1 a2 a3 a4 a5 a6 a7 a8 a9 a10 a11 a12 a13 a14 a15 :=
  pk_loop (fun n i s => wX_save_2 post f0 f1 f2 f3 f4 n (nI i) a1 a2 a3 a4 a5 a6 a7 a8 a9 a10 s a12 a13 a14 a15) (fun i s => ∀ j, j < i → s j = vp_nar .byte (a6 j)) 8 0 a11 (by omega) (fun j hj => absurd hj (by omega))
    (fun n s h => pk_le 8 8 (fun _ => sm_save28 (fun d hd => H s d h hd)) (fun z => absurd z (by omega)))
    (fun n i s hi h hw => pk_le 8 i (fun z => absurd z (by omega)) (fun _ => ⟨pk_in i 8 (by omega), pk_in i 8 (by omega), nm_e (nm_r (nI_1 i) (hw _ (sm_fill (f := fun j => vp_nar .byte (a6 j)) (nI_clamp (by omega)) h (by rw [nI_clamp (by omega)]))))⟩))
theorem sm_rest28 (H : ∀ b, (∀ j, j < 12 → b j = vp_nar .byte (a12 j)) → post (f0, f1, f2, f3, f4, a1, a2, a3, a4, a5, a6, b, a8, a9, a10, a11, a12, a13, a14, a15)) : ∃ n, wX_restore_28 post f0 f1 f2 f3 f4 n 0 a1 a2 a3 a4 a5 a6 a7 a8 a9 a10 a11 a12 a13 a14 a15 :=
  pk_loop (fun n i s => wX_restore_28 post f0 f1 f2 f3 f4 n (nI i) a1 a2 a3 a4 a5 a6 s a8 a9 a10 a11 a12 a13 a14 a15) (fun i s => ∀ j, j < i → s j = vp_nar .byte (a12 j)) 12 0 a7 (by omega) (fun j hj => absurd hj (by omega))
    (fun n s h => pk_le 12 12 (fun _ => H s h) (fun z => absurd z (by omega)))
    (fun n i s hi h hw => pk_le 12 i (fun z => absurd z (by omega)) (fun _ => ⟨pk_in i 12 (by omega), pk_in i 12 (by omega), nm_e (nm_r (nI_1 i) (hw _ (sm_fill (f := fun j => vp_nar .byte (a12 j)) (nI_clamp (by omega)) h (by rw [nI_clamp (by omega)]))))⟩))
theorem sm_rest2 (H : ∀ b d, (∀ j, j < 8 → b j = vp_nar .byte (a11 j)) → (∀ j, j < 12 → d j = vp_nar .byte (a12 j)) → post (f0, f1, f2, f3, f4, a1, a2, a3, a4, a5, b, d, a8, a9, a10, a11, a12, a13, a14, a15)) : ∃ n, wX_restore_2 post f0 f1 f2 f3 f4 n 0 a1 a2 a3 a4 a5 a6 a7 a8 a9 a10 a11 a12 a13 a14 a15 :=
  pk_loop (fun n i s => wX_restore_2 post f0 f1 f2 f3 f4 n (nI i) a1 a2 a3 a4 a5 s a7 a8 a9 a10 a11 a12 a13 a14 a15) (fun i s => ∀ j, j < i → s j = vp_nar .byte (a11 j)) 8 0 a6 (by omega) (fun j hj => absurd hj (by omega))
    (fun n s h => pk_le 8 8 (fun _ => sm_rest28 (fun d hd => H s d h hd)) (fun z => absurd z (by omega)))
    (fun n i s hi h hw => pk_le 8 i (fun z => absurd z (by omega)) (fun _ => ⟨pk_in i 8 (by omega), pk_in i 8 (by omega), nm_e (nm_r (nI_1 i) (hw _ (sm_fill (f := fun j => vp_nar .byte (a11 j)) (nI_clamp (by omega)) h (by rw [nI_clamp (by omega)]))))⟩))
theorem sm_nm : vp_nar .byte (-1) = -1 := by
  rw [vp_nar_byte]
  decide
theorem sm_n0 : vp_nar .byte 0 = 0 := by
  rw [vp_nar_byte]
  decide
theorem sm_save (h : sm_P c r u) (H : ∀ u', sm_P c r u' → sm_S u' → post u') : wpX_save post u := by
  obtain ⟨f0, f1, f2, f3, f4, a1, a2, a3, a4, a5, a6, a7, a8, a9, a10, a11, a12, a13, a14, a15⟩ := u
  obtain ⟨h0, h5, hc, h1, h6, h7⟩ := h
  exact sm_save2 (fun b d hb hd => H _ ⟨h0, h5, hc, h1, h6, h7⟩ ⟨fun j hj => by rw [hb j hj, h6 j hj, sm_nm], fun j hj => by rw [hd j hj, h7 j hj, sm_n0]⟩)
theorem sm_restore (h : sm_P c r u) (hs : sm_S u) (H : ∀ u', sm_P c r u' → post u') : wpX_restore post u := by
  obtain ⟨f0, f1, f2, f3, f4, a1, a2, a3, a4, a5, a6, a7, a8, a9, a10, a11, a12, a13, a14, a15⟩ := u
  obtain ⟨h0, h5, hc, h1, h6, h7⟩ := h
  obtain ⟨h11, h12⟩ := hs
  exact sm_rest2 (fun b d hb hd => H _ ⟨h0, h5, hc, h1, fun j hj => by rw [hb j hj, h11 j hj, sm_nm], fun j hj => by rw [hd j hj, h12 j hj, sm_n0]⟩)
theorem sm_total {post : Int32 → Prop} (h : sm_P c r u) (H : post 0) : wpX_total post u := by
  obtain ⟨f0, f1, f2, f3, f4, a1, a2, a3, a4, a5, a6, a7, a8, a9, a10, a11, a12, a13, a14, a15⟩ := u
  obtain ⟨rfl, h5, hc, h1, h6, h7⟩ := h
  exact pk_loop (σ := Unit) (fun n i _ => wX_total_4 post (nI c) f1 f2 f3 f4 a1 a2 a3 a4 a5 a6 a7 a8 a9 a10 a11 a12 a13 a14 a15 n 0 (nI i)) (fun _ _ => True) c 0 () (by omega) trivial
    (fun n _ _ => pk_le c c (fun _ => H) (fun z => absurd z (by omega)))
    (fun n i _ hi _ hw => pk_le c i (fun z => absurd z (by omega)) (fun _ => ⟨pk_in i 8 (by omega), br_t (by rw [nI_clamp (by omega), h6 i (by omega)]; decide) (nm_r (nI_1 i) (hw () trivial))⟩))
theorem sm_narrow {k : Nat} (hk : k < 12) (h : sm_P c r u) (hs : sm_S u) (hr : ¬ (r k - 1).toInt8.toInt32 < 0) (H : ∀ u', sm_P c (upd r k ((r k - 1).toInt8.toInt32)) u' → sm_S u' → post u') : wpX_narrow post u (nI k) := by
  obtain ⟨f0, f1, f2, f3, f4, a1, a2, a3, a4, a5, a6, a7, a8, a9, a10, a11, a12, a13, a14, a15⟩ := u
  obtain ⟨h0, h5, hc, h1, h6, h7⟩ := h
  have e : (nI k).toNatClampNeg = k := nI_clamp (by omega)
  unfold wpX_narrow
  dsimp only
  rw [e]
  refine ⟨pk_in k 12 hk, pk_in k 12 hk, nm_e ⟨pk_in k 12 hk, pk_in k 12 hk, br_f ?_ (H _ ⟨h0, by rw [h5], hc, h1, h6, h7⟩ hs)⟩⟩
  rw [pk_us, h7 k hk, h5]
  exact hr
theorem sm_best {post : Int32 → Prop} {x : Int32} (h : sm_P c r u) (H : post (-1)) : wpX_bestWaitingAfter post u x := by
  obtain ⟨f0, f1, f2, f3, f4, a1, a2, a3, a4, a5, a6, a7, a8, a9, a10, a11, a12, a13, a14, a15⟩ := u
  obtain ⟨rfl, h5, hc, h1, h6, h7⟩ := h
  exact pk_loop (σ := Unit) (fun n i _ => wX_bestWaitingAfter_4 post x (nI c) f1 f2 f3 f4 a1 a2 a3 a4 a5 a6 a7 a8 a9 a10 a11 a12 a13 a14 a15 n (-1) (nI i)) (fun _ _ => True) c 0 () (by omega) trivial
    (fun n _ _ => pk_le c c (fun _ => H) (fun z => absurd z (by omega)))
    (fun n i _ hi _ hw => pk_le c i (fun z => absurd z (by omega)) (fun _ => ⟨pk_in i 8 (by omega), br_t (by rw [nI_clamp (by omega), h1 i (by omega)]) (nm_r (nI_1 i) (hw () trivial))⟩))
theorem sm_fillBest (h : sm_P c r u) (H : post u) : wpX_fillFromBest post u := by
  have h' := h
  obtain ⟨f0, f1, f2, f3, f4, a1, a2, a3, a4, a5, a6, a7, a8, a9, a10, a11, a12, a13, a14, a15⟩ := u
  obtain ⟨rfl, h5, hc, h1, h6, h7⟩ := h
  refine ⟨2, ?_⟩
  refine pk_le c 0 (fun z => absurd z (by omega)) (fun _ => br_t rfl (sm_best h' (br_f (by decide) (nm_e ?_))))
  exact pk_le c 1 (fun _ => H) (fun _ => br_f (by decide) H)
theorem sm_widen {k : Nat} (hk : k < 12) (h : sm_P c r u) (hs : sm_S u) (H : ∀ u', sm_P c (upd r k ((r k + 1).toInt8.toInt32)) u' → sm_S u' → post u') : wpX_widen post u (nI k) := by
  obtain ⟨f0, f1, f2, f3, f4, a1, a2, a3, a4, a5, a6, a7, a8, a9, a10, a11, a12, a13, a14, a15⟩ := u
  obtain ⟨h0, h5, hc, h1, h6, h7⟩ := h
  have e : (nI k).toNatClampNeg = k := nI_clamp (by omega)
  unfold wpX_widen
  dsimp only
  rw [e]
  have P' : sm_P c (upd r k ((r k + 1).toInt8.toInt32)) (f0, f1, f2, f3, f4, a1, a2, a3, a4, upd a5 k ((a5 k + 1).toInt8.toInt32), a6, a7, a8, a9, a10, a11, a12, a13, a14, a15) := ⟨h0, by rw [h5], hc, h1, h6, h7⟩
  exact ⟨pk_in k 12 hk, pk_in k 12 hk, nm_e (sm_fillBest P' (H _ P' hs))⟩
end
end
section
section
variable {u : St2} {c n : Nat} {r : Nat → Int32}
theorem sm_room {post : Int32 → Prop} {x : Int32} (h : sm_P c r u) (hr : ∀ j, j < 12 → r j = nI n) (H : ∀ v, ((x < 0 ∨ 11 < x) → v = -1) → (¬ (x < 0 ∨ 11 < x) → v = nI n) → post v) : wpX_room post u x := by
  obtain ⟨f0, f1, f2, f3, f4, a1, a2, a3, a4, a5, a6, a7, a8, a9, a10, a11, a12, a13, a14, a15⟩ := u
  obtain ⟨h0, h5, hc, h1, h6, h7⟩ := h
  refine br_c (fun g => H _ (fun _ => rfl) (fun z => absurd (Or.inl g) z)) (fun g => br_c (fun g2 => ?_) (fun g2 => H _ (fun _ => rfl) (fun z => absurd (Or.inr (Int32.not_le.mp g2)) z)))
  obtain ⟨k, hk, rfl⟩ := nI_of2 (M := 11) (n := 11) (by decide) g g2
  refine ⟨pk_in k 12 (by omega), H _ (fun z => ?_) (fun _ => ?_)⟩
  · exact absurd z (fun z => z.elim g (Int32.not_lt.mpr g2))
  · rw [nI_clamp (by omega), h5]
    exact hr k (by omega)
theorem sm_loss {post : Int32 → St2 → Prop} {x : Int32} (hn : n ≤ 3) (h : sm_P c r u) (hr : ∀ j, j < 12 → r j = nI n)
    (H : ∀ v u', sm_P c r u' → ((x < 0 ∨ 11 < x) → v = -1) → (¬ (x < 0 ∨ 11 < x) → n = 0 → v = -1) → (¬ (x < 0 ∨ 11 < x) → 0 < n → v = 0) → post v u') : wpX_loss post u x := by
  have h' := h
  obtain ⟨f0, f1, f2, f3, f4, a1, a2, a3, a4, a5, a6, a7, a8, a9, a10, a11, a12, a13, a14, a15⟩ := u
  obtain ⟨h0, h5, hc, h1, h6, h7⟩ := h
  refine br_c (fun g => H _ _ h' (fun _ => rfl) (fun z => absurd (Or.inl g) z) (fun z => absurd (Or.inl g) z)) (fun g => br_c (fun g2 => H _ _ h' (fun _ => rfl) (fun z => absurd (Or.inr g2) z) (fun z => absurd (Or.inr g2) z)) (fun g2 => ?_))
  obtain ⟨k, hk, rfl⟩ := nI_of2 (M := 11) (n := 11) (by decide) g (Int32.not_lt.mp g2)
  have hin : ¬ (nI k < 0 ∨ 11 < nI k) := fun z => z.elim g g2
  have e : (nI k).toNatClampNeg = k := nI_clamp (by omega)
  have e5 : a5 k = nI n := by rw [h5]; exact hr k (by omega)
  refine ⟨pk_in k 12 (by omega), pk_eq n 0 (fun z => H _ _ h' (fun _ => rfl) (fun _ _ => rfl) (fun _ z' => absurd z' (by omega))) (fun z => ?_) (by rw [e, e5])⟩
  have hrk := hr k (by omega)
  have hd := sm_dn n hn (by omega)
  refine sm_save h' (fun u1 p1 s1 => ?_)
  obtain ⟨g0, g1, g2, g3, g4, b1, b2, b3, b4, b5, b6, b7, b8, b9, b10, b11, b12, b13, b14, b15⟩ := u1
  refine sm_total p1 (sm_narrow (by omega) p1 s1 (by rw [hrk]; exact hd.1) (fun u2 p2 s2 => ?_))
  obtain ⟨g0, g1, g2, g3, g4, b1, b2, b3, b4, b5, b6, b7, b8, b9, b10, b11, b12, b13, b14, b15⟩ := u2
  refine sm_total p2 ⟨pk_in k 12 (by omega), pk_in k 12 (by omega), nm_e ?_⟩
  obtain ⟨q0, q5, qc, q1, q6, q7⟩ := p2
  refine sm_restore (r := r) (c := c) ⟨q0, ?_, qc, q1, q6, q7⟩ s2 (fun u3 p3 => ?_)
  · rw [e, q5, pk_us]
    exact sm_uu r k _ _ (by rw [hrk]; exact hd.2)
  · obtain ⟨g0, g1, g2, g3, g4, b1, b2, b3, b4, b5, b6, b7, b8, b9, b10, b11, b12, b13, b14, b15⟩ := u3
    exact H _ _ p3 (fun z => absurd z hin) (fun _ z => absurd z (by omega)) (fun _ _ => by decide)
theorem sm_gain {post : Int32 → St2 → Prop} {x : Int32} (hn : n ≤ 3) (h : sm_P c r u) (hr : ∀ j, j < 12 → r j = nI n)
    (H : ∀ v u', sm_P c r u' → ((x < 0 ∨ 11 < x) → v = -1) → (¬ (x < 0 ∨ 11 < x) → v = 0) → post v u') : wpX_gain post u x := by
  have h' := h
  obtain ⟨f0, f1, f2, f3, f4, a1, a2, a3, a4, a5, a6, a7, a8, a9, a10, a11, a12, a13, a14, a15⟩ := u
  obtain ⟨h0, h5, hc, h1, h6, h7⟩ := h
  refine br_c (fun g => H _ _ h' (fun _ => rfl) (fun z => absurd (Or.inl g) z)) (fun g => br_c (fun g2 => ?_) (fun g2 => H _ _ h' (fun _ => rfl) (fun z => absurd (Or.inr (Int32.not_le.mp g2)) z)))
  obtain ⟨k, hk, rfl⟩ := nI_of2 (M := 11) (n := 11) (by decide) g g2
  have hin : ¬ (nI k < 0 ∨ 11 < nI k) := fun z => z.elim g (Int32.not_lt.mpr g2)
  have e : (nI k).toNatClampNeg = k := nI_clamp (by omega)
  have hrk := hr k (by omega)
  have hd := sm_up n hn
  refine sm_save h' (fun u1 p1 s1 => ?_)
  obtain ⟨g0, g1, g2, g3, g4, b1, b2, b3, b4, b5, b6, b7, b8, b9, b10, b11, b12, b13, b14, b15⟩ := u1
  refine sm_total p1 (sm_widen (by omega) p1 s1 (fun u2 p2 s2 => ?_))
  obtain ⟨g0, g1, g2, g3, g4, b1, b2, b3, b4, b5, b6, b7, b8, b9, b10, b11, b12, b13, b14, b15⟩ := u2
  refine sm_total p2 ⟨pk_in k 12 (by omega), pk_in k 12 (by omega), nm_e ?_⟩
  obtain ⟨q0, q5, qc, q1, q6, q7⟩ := p2
  refine sm_restore (r := r) (c := c) ⟨q0, ?_, qc, q1, q6, q7⟩ s2 (fun u3 p3 => ?_)
  · rw [e, q5, pk_us]
    exact sm_uu r k _ _ (by rw [hrk]; exact hd)
  · obtain ⟨g0, g1, g2, g3, g4, b1, b2, b3, b4, b5, b6, b7, b8, b9, b10, b11, b12, b13, b14, b15⟩ := u3
    exact H _ _ p3 (fun z => absurd z hin) (fun _ => by decide)
theorem sm_take {post : Int32 → St2 → Prop} {x : Int32} (h : sm_P c r u) (H : post 0 u) : wpX_take post u x := by
  obtain ⟨f0, f1, f2, f3, f4, a1, a2, a3, a4, a5, a6, a7, a8, a9, a10, a11, a12, a13, a14, a15⟩ := u
  obtain ⟨rfl, h5, hc, h1, h6, h7⟩ := h
  refine br_c (fun _ => br_t rfl H) (fun g => br_c (fun _ => br_t rfl H) (fun g2 => ?_))
  obtain ⟨j, hj, rfl⟩ := nI_of g
  have hjc : j < c := by
    rcases Nat.lt_or_ge j c with z | z
    · exact z
    · exact absurd (nI_le z hj) g2
  exact ⟨pk_in j 8 (by omega), br_t (by rw [nI_clamp hj, h1 j (by omega)]) (br_t rfl H)⟩
end
end
section
section
variable {f0 f1 f2 f3 f4 : Int32} {a1 a2 a3 a4 a5 a6 a7 a8 a9 a10 a11 a12 a13 a14 a15 : Nat → Int32} {u : St2} {c n lo hi : Nat} {r : Nat → Int32}
theorem sm_sitters {post : St2 → Prop} {x y : Int32} (hc : c ≤ 7) (h6 : ∀ j, j < 8 → a6 j = -1) (hx : ¬ (-1 : Int32) = x) (H : post (nI c, f1, f2, f3, f4, a1, a2, a3, a4, a5, a6, a7, a8, a9, a10, a11, a12, a13, a14, a15)) : wpX_reachSitters post (nI c, f1, f2, f3, f4, a1, a2, a3, a4, a5, a6, a7, a8, a9, a10, a11, a12, a13, a14, a15) x y :=
  pk_loop (σ := Unit) (fun n i _ => wX_reachSitters_2 post x y (nI c) f2 f3 f4 n (nI i) f1 a1 a2 a3 a4 a5 a6 a7 a8 a9 a10 a11 a12 a13 a14 a15) (fun _ _ => True) c 0 () (by omega) trivial
    (fun n _ _ => pk_le c c (fun _ => H) (fun z => absurd z (by omega)))
    (fun n i _ hi _ hw => pk_le c i (fun z => absurd z (by omega)) (fun _ => ⟨pk_in i 8 (by omega), br_f (by rw [nI_clamp (by omega), h6 i (by omega)]; exact hx) (nm_r (nI_1 i) (hw () trivial))⟩))
theorem sm_m1 {i : Nat} (h : i < 12) : ¬ (-1 : Int32) = nI i := by
  intro z
  have g := nI_pos (n := i) (by omega)
  rw [← z] at g
  exact g (by decide)
theorem sm_look0 {post : St2 → Prop} (hc : c ≤ 7) (hlh : lo ≤ hi) (hh : hi ≤ 11) (h5 : ∀ j, j < 12 → a5 j = 0) (h2 : a2 0 = nI lo) (h3 : a3 0 = nI hi) (h6 : ∀ j, j < 8 → a6 j = -1) (h7 : ∀ j, j < 12 → a7 j = 0)
    (H : post (nI c, f1, -1, f3, f4, a1, a2, a3, a4, a5, a6, a7, a8, a9, a10, a11, a12, a13, a14, a15)) : wpX_look post (nI c, f1, -1, f3, f4, a1, a2, a3, a4, a5, a6, a7, a8, a9, a10, a11, a12, a13, a14, a15) 0 :=
  ⟨pk_in 0 8 (by omega), nm_r h2 (pk_loop (σ := Unit) (fun n i _ => wX_look_7 post 0 n (nI i) (nI c) f1 (-1) f3 f4 a1 a2 a3 a4 a5 a6 a7 a8 a9 a10 a11 a12 a13 a14 a15) (fun i _ => lo ≤ i) (hi + 1) lo () (by omega) (Nat.le_refl lo)
    (fun n _ _ => ⟨pk_in 0 8 (by omega), pk_lt hi (hi + 1) (fun _ => H) (fun z => absurd z (by omega)) h3⟩)
    (fun n i _ hi' hl hw => ⟨pk_in 0 8 (by omega), pk_lt hi i (fun z => absurd z (by omega)) (fun _ => br_f (by decide) ⟨pk_in i 12 (by omega), pk_in i 12 (by omega),
      br_t (by rw [nI_clamp (by omega), h5 i (by omega), h7 i (by omega)]; decide) (sm_sitters hc h6 (sm_m1 (by omega)) (nm_r (nI_1 i) (hw () (by omega))))⟩) h3⟩))⟩
theorem sm_look1 {post : St2 → Prop} (hlh : lo ≤ hi) (hh : hi ≤ 11) (hn : 0 < n) (hn3 : n ≤ 3) (h5 : ∀ j, j < 12 → a5 j = nI n) (h2 : a2 0 = nI lo) (h3 : a3 0 = nI hi) (h7 : ∀ j, j < 12 → a7 j = 0)
    (H : post (f0, f1, nI lo, 0, f4, a1, a2, a3, a4, a5, a6, a7, a8, a9, a10, a11, a12, a13, a14, a15)) : wpX_look post (f0, f1, -1, f3, f4, a1, a2, a3, a4, a5, a6, a7, a8, a9, a10, a11, a12, a13, a14, a15) 0 :=
  ⟨pk_in 0 8 (by omega), nm_r h2 ⟨2, ⟨pk_in 0 8 (by omega), pk_lt hi lo (fun z => absurd z (by omega)) (fun _ => br_f (by decide) ⟨pk_in lo 12 (by omega), pk_in lo 12 (by omega),
      br_f (by rw [nI_clamp (by omega), h5 lo (by omega), h7 lo (by omega)]; exact nI_nle hn (by omega)) (nm_r (nI_1 lo) ⟨pk_in 0 8 (by omega), br_c (fun _ => H) (fun _ => br_t (nI_pos' (by omega)) H)⟩)⟩) h3⟩⟩⟩
theorem sm_shift {post : St2 → Prop} (hl : lo < 12) (h6 : a6 0 = -1) (h9 : a9 0 = -1) (H : ∀ b d, post (f0, f1, nI lo, 0, f4, a1, a2, a3, a4, a5, b, d, a8, a9, a10, a11, a12, a13, a14, a15)) : wpX_shift post (f0, f1, nI lo, 0, f4, a1, a2, a3, a4, a5, a6, a7, a8, a9, a10, a11, a12, a13, a14, a15) := by
  refine ⟨2, br_f (by decide) (br_f (by decide) ⟨pk_in 0 8 (by omega), nm_r h6 ⟨pk_in 0 8 (by omega), nm_r h6 (br_t (by decide) ⟨pk_in 0 8 (by omega), nm_e ⟨pk_in lo 12 hl, pk_in lo 12 hl, nm_e ⟨pk_in 0 8 (by omega), nm_r h9 (nm_e ?_)⟩⟩⟩)⟩⟩)⟩
  exact br_f (by decide) (br_t (by decide) (H _ _))
theorem sm_place {post : Int32 → St2 → Prop} (hn : n ≤ 3) (hlh : lo ≤ hi) (hh : hi ≤ 11) (h : sm_Q c lo hi r u) (hr : ∀ j, j < 12 → r j = nI n) (H0 : ∀ u', sm_R c u' → sm_E u' → post 0 u') (H1 : ∀ u', sm_R c u' → post 1 u') : wpX_place post u 0 := by
  obtain ⟨f0, f1, f2, f3, f4, a1, a2, a3, a4, a5, a6, a7, a8, a9, a10, a11, a12, a13, a14, a15⟩ := u
  obtain ⟨rfl, rfl, hc, h1, h2, h3, h6, h7⟩ := h
  refine pk_loop (fun n i s => wX_place_2 post 0 (nI c) f1 f2 f3 f4 n (nI i) a1 a2 a3 a4 a5 a6 a7 s a9 a10 a11 a12 a13 a14 a15) (fun i s => ∀ j, j < i → s j = (fun _ => 0) j) 8 0 a8 (by omega) (fun j hj => absurd hj (by omega)) ?_
    (fun n i s hi h hw => pk_le 8 i (fun z => absurd z (by omega)) (fun _ => ⟨pk_in i 8 (by omega), nm_e (nm_r (nI_1 i) (hw _ (sm_fill (nI_clamp (by omega)) h rfl)))⟩))
  intro _ s hs
  refine pk_le 8 8 (fun _ => ⟨pk_in 0 8 (by omega), nm_e ⟨pk_in 0 8 (by omega), nm_e (nm_e ⟨2, br_f (by decide) (br_f (by decide) (br_f (by decide) ⟨pk_in 0 8 (by omega), ?_⟩))⟩)⟩⟩) (fun z => absurd z (by omega))
  have E : upd s (0 : Int32).toNatClampNeg 1 0 = 1 ∧ ∀ j, 1 ≤ j → j < 8 → upd s (0 : Int32).toNatClampNeg 1 j = 0 := by
    rw [show (0 : Int32).toNatClampNeg = 0 from sb_cl0]
    exact ⟨pk_us, fun j hj hj8 => by rw [pk_un (by omega)]; exact hs j hj8⟩
  have E9 : upd a9 (0 : Int32).toNatClampNeg (-1) 0 = -1 := by
    rw [show (0 : Int32).toNatClampNeg = 0 from sb_cl0]
    exact pk_us
  have E10 : upd a10 0 ((0 : Int32).toInt8.toInt32) (0 : Int32).toNatClampNeg = 0 := by
    rw [show (0 : Int32).toNatClampNeg = 0 from sb_cl0, pk_us]
    decide
  rw [E10]
  by_cases z : n = 0
  · subst z
    refine sm_look0 hc.2 hlh hh (fun j hj => hr j hj) h2 h3 h6 h7 (nm_e ?_)
    exact br_t (by decide) (br_f (by decide) (H0 _ ⟨rfl, hc, h1⟩ E))
  · refine sm_look1 (n := n) hlh hh (by omega) hn hr h2 h3 h7 (nm_e ?_)
    exact br_t (by decide) (br_t (nI_pos' (by omega)) (sm_shift (by omega) (h6 0 (by omega)) E9 (fun b d => H1 _ ⟨rfl, hc, h1⟩)))
theorem sm_least {post : Int32 → Prop} (h : sm_R c u) (he : sm_E u) (H : post 0) : wpX_leastReached post u := by
  obtain ⟨f0, f1, f2, f3, f4, a1, a2, a3, a4, a5, a6, a7, a8, a9, a10, a11, a12, a13, a14, a15⟩ := u
  obtain ⟨rfl, hc, h1⟩ := h
  obtain ⟨e0, e1⟩ := he
  have L := pk_loop (σ := Unit) (fun n i _ => wX_leastReached_4 post (nI c) f1 f2 f3 f4 a1 a2 a3 a4 a5 a6 a7 a8 a9 a10 a11 a12 a13 a14 a15 n 0 (nI i)) (fun i _ => 1 ≤ i) c 1 () (by omega) (Nat.le_refl 1)
    (fun n _ _ => pk_le c c (fun _ => H) (fun z => absurd z (by omega)))
    (fun n i _ hi hl hw => pk_le c i (fun z => absurd z (by omega)) (fun _ => ⟨pk_in i 8 (by omega), br_t (by rw [nI_clamp (by omega), e1 i hl (by omega)]) (nm_r (nI_1 i) (hw () (by omega)))⟩))
  obtain ⟨m, hm⟩ := L
  refine ⟨m + 1, pk_le c 0 (fun z => absurd z (by omega)) (fun _ => ⟨pk_in 0 8 (by omega), br_f ?_ (br_t (by decide) (nm_r (nI_1 0) hm))⟩)⟩
  rw [sb_cl0, e0]
  decide
theorem sm_contest {post : St2 → Prop} (hn : n ≤ 3) (hlh : lo ≤ hi) (hh : hi ≤ 11) (h : sm_Q c lo hi r u) (hr : ∀ j, j < 12 → r j = nI n) (H : ∀ u', sm_R c u' → post u') : wpX_contest post u 0 := by
  obtain ⟨f0, f1, f2, f3, f4, a1, a2, a3, a4, a5, a6, a7, a8, a9, a10, a11, a12, a13, a14, a15⟩ := u
  unfold wpX_contest
  refine sm_place hn hlh hh h hr (fun u1 r1 e1 => ?_) (fun u1 r1 => ?_)
  · obtain ⟨g0, g1, g2, g3, g4, b1, b2, b3, b4, b5, b6, b7, b8, b9, b10, b11, b12, b13, b14, b15⟩ := u1
    exact br_t rfl (sm_least r1 e1 (br_t rfl (H _ r1)))
  · obtain ⟨g0, g1, g2, g3, g4, b1, b2, b3, b4, b5, b6, b7, b8, b9, b10, b11, b12, b13, b14, b15⟩ := u1
    exact br_f (by decide) (H _ r1)
def sm_G (x y z : Int32) : Prop := ¬ x < 0 ∧ ¬ y < x ∧ ¬ 11 < y ∧ ¬ z < 1 ∧ ¬ 20 < z
theorem sm_bring {post : Int32 → St2 → Prop} {x y z : Int32} (hn : n ≤ 3) (h : sm_P c r u) (hr : ∀ j, j < 12 → r j = nI n)
    (H0 : ¬ sm_G x y z → ∀ u', sm_P c r u' → post (-1) u') (H1 : sm_G x y z → ∀ u', sm_R c u' → post 0 u') : wpX_bring post u x y z := by
  have h' := h
  obtain ⟨f0, f1, f2, f3, f4, a1, a2, a3, a4, a5, a6, a7, a8, a9, a10, a11, a12, a13, a14, a15⟩ := u
  obtain ⟨rfl, h5, hc, h1, h6, h7⟩ := h
  refine br_c (fun g => H0 (fun t => t.1 g) _ h') (fun g1 => br_c (fun g => H0 (fun t => t.2.1 g) _ h') (fun g2 => br_c (fun g => H0 (fun t => t.2.2.1 g) _ h') (fun g3 => br_c (fun g => H0 (fun t => t.2.2.2.1 g) _ h') (fun g4 => br_c (fun g5 => ?_) (fun g => H0 (fun t => t.2.2.2.2 (Int32.not_le.mp g)) _ h')))))
  have G : sm_G x y z := ⟨g1, g2, g3, g4, Int32.not_lt.mpr g5⟩
  have gy : ¬ y < 0 := fun t => g2 (Int32.lt_of_lt_of_le t (Int32.not_lt.mp g1))
  obtain ⟨hi, hh, rfl⟩ := nI_of2 (M := 11) (n := 11) (by decide) gy (Int32.not_lt.mp g3)
  obtain ⟨lo, hl, rfl⟩ := nI_of g1
  have hlh : lo ≤ hi := by
    rcases Nat.lt_or_ge hi lo with t | t
    · exact absurd (nI_lt t hl) g2
    · exact t
  refine ⟨1, pk_le c 0 (fun t => absurd t (by omega)) (fun _ => ⟨pk_in 0 8 (by omega), br_t (h1 0 (by omega)) ⟨pk_in 0 8 (by omega), nm_e ⟨pk_in 0 8 (by omega), nm_e ⟨pk_in 0 8 (by omega), nm_e ⟨pk_in 0 8 (by omega), nm_e ⟨pk_in 0 8 (by omega), nm_e ?_⟩⟩⟩⟩⟩⟩)⟩
  refine sm_contest (n := n) (lo := lo) (hi := hi) (c := c) (r := r) hn hlh hh ⟨rfl, h5, hc, ?_, ?_, ?_, ?_, h7⟩ hr (fun u1 r1 => ?_)
  · rw [sb_cl0]
    exact ⟨pk_us, fun j hj hj8 => by rw [pk_un (by omega)]; exact h1 j hj8⟩
  · rw [sb_cl0, pk_us]
    exact sm_b12 lo (by omega)
  · rw [sb_cl0, pk_us]
    exact sm_b12 hi (by omega)
  · intro j hj
    rw [sb_cl0]
    by_cases t : j = 0
    · rw [t, pk_us]
    · rw [pk_un t]
      exact h6 j hj
  · obtain ⟨g0, g1, g2, g3, g4, b1, b2, b3, b4, b5, b6, b7, b8, b9, b10, b11, b12, b13, b14, b15⟩ := u1
    exact H1 G _ r1
theorem sm_jobs0 {post : Int32 → Prop} (h : sm_P c r u) (H : post 0) : wpX_jobs post u := by
  obtain ⟨f0, f1, f2, f3, f4, a1, a2, a3, a4, a5, a6, a7, a8, a9, a10, a11, a12, a13, a14, a15⟩ := u
  obtain ⟨rfl, h5, hc, h1, h6, h7⟩ := h
  exact pk_loop (σ := Unit) (fun n i _ => wX_jobs_4 post (nI c) f1 f2 f3 f4 a1 a2 a3 a4 a5 a6 a7 a8 a9 a10 a11 a12 a13 a14 a15 n 0 (nI i)) (fun _ _ => True) c 0 () (by omega) trivial
    (fun n _ _ => pk_le c c (fun _ => H) (fun z => absurd z (by omega)))
    (fun n i _ hi _ hw => pk_le c i (fun z => absurd z (by omega)) (fun _ => ⟨pk_in i 8 (by omega), br_t (by rw [nI_clamp (by omega), h1 i (by omega)]) (nm_r (nI_1 i) (hw () trivial))⟩))
theorem sm_jobs1 {post : Int32 → Prop} (h : sm_R c u) (H : post 1) : wpX_jobs post u := by
  obtain ⟨f0, f1, f2, f3, f4, a1, a2, a3, a4, a5, a6, a7, a8, a9, a10, a11, a12, a13, a14, a15⟩ := u
  obtain ⟨rfl, hc, h1, h1'⟩ := h
  have L := pk_loop (σ := Unit) (fun n i _ => wX_jobs_4 post (nI c) f1 f2 f3 f4 a1 a2 a3 a4 a5 a6 a7 a8 a9 a10 a11 a12 a13 a14 a15 n 1 (nI i)) (fun i _ => 1 ≤ i) c 1 () (by omega) (Nat.le_refl 1)
    (fun n _ _ => pk_le c c (fun _ => H) (fun z => absurd z (by omega)))
    (fun n i _ hi hl hw => pk_le c i (fun z => absurd z (by omega)) (fun _ => ⟨pk_in i 8 (by omega), br_t (by rw [nI_clamp (by omega), h1' i hl (by omega)]) (nm_r (nI_1 i) (hw () (by omega)))⟩))
  obtain ⟨m, hm⟩ := L
  refine ⟨m + 1, pk_le c 0 (fun z => absurd z (by omega)) (fun _ => ⟨pk_in 0 8 (by omega), br_f ?_ (nm_r (e' := 1) (by decide) (nm_r (nI_1 0) hm))⟩)⟩
  rw [sb_cl0, h1]
  decide
end
end
section
section
variable {post : Int32 → St0 → Prop} {mc ms kc ks n : Nat} {x2 x3 x4 x5 x7 x8 x9 x10 x11 x12 x13 x14 x15 : Int32}
theorem sm_207 (hp : post 1 ()) {z : Int32} (h : x11 = z) (h0 : x15 = 0 → x12 = 0) (h1 : ¬ x15 = 0 → x12 = 1) : wL_lawOf_207 post mc ms x12 x15 z x11 kc ks :=
  br_t h (br_c (fun e => br_t (h0 e) hp) (fun e => br_t (h1 e) hp))
theorem sm_187 (hp : post 1 ()) {z : Int32} (h : x9 = z) (hout : x10 = 0) (h0 : x15 = 0 → x11 = -1 ∧ x12 = 0) (h1 : ¬ x15 = 0 → x11 = 0 ∧ x12 = 1) : wL_lawOf_187 post mc ms x10 x11 x12 x15 z x9 kc ks :=
  br_t h (br_t hout (br_c (fun e => sm_207 hp (h0 e).1 (fun e => (h0 e).2) (fun e => (h1 e).2)) (fun e => sm_207 hp (h1 e).1 (fun e => (h0 e).2) (fun e => (h1 e).2))))
theorem sm_172 (hp : post 1 ()) {z : Int32} (h : x8 = z) (i0 : x14 = 0 → x9 = -1) (i1 : ¬ x14 = 0 → x9 = 0) (hout : x10 = 0) (h0 : x15 = 0 → x11 = -1 ∧ x12 = 0) (h1 : ¬ x15 = 0 → x11 = 0 ∧ x12 = 1) : wL_lawOf_172 post mc ms x9 x10 x11 x12 x14 x15 z x8 kc ks :=
  br_t h (br_c (fun e => sm_187 hp (i0 e) hout h0 h1) (fun e => sm_187 hp (i1 e) hout h0 h1))
theorem sm_137 (hp : post 1 ()) (hn : n ≤ 3) (i0 : x14 = 0 → x7 = -1 ∧ x8 = -1 ∧ x9 = -1) (i1 : ¬ x14 = 0 → x7 = nI n ∧ (n = 0 → x8 = -1) ∧ (0 < n → x8 = 0) ∧ x9 = 0) (hout : x10 = 0) (h0 : x15 = 0 → x11 = -1 ∧ x12 = 0) (h1 : ¬ x15 = 0 → x11 = 0 ∧ x12 = 1) :
    wL_lawOf_137 post mc ms x7 x8 x9 x10 x11 x12 (nI n) x14 x15 kc ks := by
  have T : ∀ z, x8 = z → wL_lawOf_172 post mc ms x9 x10 x11 x12 x14 x15 z x8 kc ks := fun z hz => sm_172 hp hz (fun e => (i0 e).2.2) (fun e => (i1 e).2.2.2) hout h0 h1
  refine br_c (fun e => br_t (i0 e).1 (br_t e (T _ (i0 e).2.1))) (fun e => br_t (i1 e).1 (br_f e ?_))
  exact pk_le n 0 (fun z => T _ ((i1 e).2.1 (by omega))) (fun z => T _ ((i1 e).2.2.1 z))
theorem sm_102 (hp : post 1 ()) (hn : n ≤ 3) (i0 : x14 = 0 → x7 = -1 ∧ x8 = -1 ∧ x9 = -1) (i1 : ¬ x14 = 0 → x7 = nI n ∧ (n = 0 → x8 = -1) ∧ (0 < n → x8 = 0) ∧ x9 = 0) (hout : x10 = 0) (h0 : ¬ sm_G x2 x3 x4 → x11 = -1 ∧ x12 = 0) (h1 : sm_G x2 x3 x4 → x11 = 0 ∧ x12 = 1) :
    wL_lawOf_102 post mc ms x2 x3 x4 x7 x8 x9 x10 x11 x12 (nI n) x14 kc ks := by
  have B : ¬ sm_G x2 x3 x4 → wL_lawOf_136 post mc ms x7 x8 x9 x10 x11 x12 (nI n) x14 kc ks := fun g => sm_137 (x15 := 0) hp hn i0 i1 hout (fun _ => h0 g) (fun z => absurd rfl z)
  refine br_c (fun g => B (fun t => t.1 g)) (fun g1 => br_c (fun g => B (fun t => t.2.1 g)) (fun g2 => br_c (fun g => B (fun t => t.2.2.1 g)) (fun g3 => br_c (fun g => B (fun t => t.2.2.2.1 g)) (fun g4 => br_c (fun g => B (fun t => t.2.2.2.2 g)) (fun g5 => ?_)))))
  exact sm_137 (x15 := 1) hp hn i0 i1 hout (fun z => absurd z (by decide)) (fun _ => h1 ⟨g1, g2, g3, g4, g5⟩)
theorem sm_83 (hp : post 1 ()) (hn : n ≤ 3) (i0 : (x5 < 0 ∨ 11 < x5) → x7 = -1 ∧ x8 = -1 ∧ x9 = -1) (i1 : ¬ (x5 < 0 ∨ 11 < x5) → x7 = nI n ∧ (n = 0 → x8 = -1) ∧ (0 < n → x8 = 0) ∧ x9 = 0) (hout : x10 = 0) (h0 : ¬ sm_G x2 x3 x4 → x11 = -1 ∧ x12 = 0) (h1 : sm_G x2 x3 x4 → x11 = 0 ∧ x12 = 1) :
    wL_lawOf_83 post mc ms x2 x3 x4 x5 x7 x8 x9 x10 x11 x12 (nI n) kc ks := by
  have B : (x5 < 0 ∨ 11 < x5) → wL_lawOf_101 post mc ms x2 x3 x4 x7 x8 x9 x10 x11 x12 (nI n) kc ks := fun g => sm_102 (x14 := 0) hp hn (fun _ => i0 g) (fun z => absurd rfl z) hout h0 h1
  refine br_c (fun g => B (Or.inl g)) (fun g1 => br_c (fun g => B (Or.inr g)) (fun g2 => ?_))
  exact sm_102 (x14 := 1) hp hn (fun z => absurd z (by decide)) (fun _ => i1 (fun t => t.elim g1 g2)) hout h0 h1
end
theorem sm_init {post : St2 → Prop} {f0 f1 f2 f3 f4 p0 p1 : Int32} {c n : Nat} (hc : 1 ≤ c ∧ c ≤ 7) (hn : n ≤ 3) (C : sm_C p0 c) (N : sm_N p1 n) (H : ∀ r u', (∀ j, j < 12 → r j = nI n) → sm_P c r u' → post u') : wpX_init post 15 132 (f0, f1, f2, f3, f4) p0 p1 := by
  unfold wpX_init
  refine ⟨by decide, by decide, by decide, by decide, by decide, by decide, by decide, by decide, by decide, by decide, by decide, by decide, by decide, by decide, by decide, by decide, by decide, by decide, by decide, by decide, by decide, by decide, by decide, by decide, by decide, by decide, by decide, by decide, by decide, by decide, ?_⟩
  refine C (fun z => wX_init_146 post 15 132 p1 z 15 132 f0 f1 f2 f3 f4 (fun _ => 0) (fun _ => 0) (fun _ => 0) (fun _ => 0) (fun _ => 0) (fun _ => 0) (fun _ => 0) (fun _ => 0) (fun _ => 0) (fun _ => 0) (fun _ => 0) (fun _ => 0) (fun _ => 0) (fun _ => 0) (fun _ => 0)) ?_
  refine N (fun z => ∃ m, wX_init_171 post 15 132 z 15 132 (nI c) f1 f2 f3 f4 m 0 (fun _ => 0) (fun _ => 0) (fun _ => 0) (fun _ => 0) (fun _ => 0) (fun _ => 0) (fun _ => 0) (fun _ => 0) (fun _ => 0) (fun _ => 0) (fun _ => 0) (fun _ => 0) (fun _ => 0) (fun _ => 0) (fun _ => 0)) ?_
  exact sm_init171 hn (fun b d hb hd => H b _ hb ⟨rfl, rfl, hc, fun _ _ => rfl, hd, fun _ _ => rfl⟩)
theorem sm_lawOf {post : Int32 → St0 → Prop} (hp : post 1 ()) (p0 p1 p2 p3 p4 p5 : Int32) : wpL_lawOf post 16 152 () p0 p1 p2 p3 p4 p5 := by
  obtain ⟨n, hn, N⟩ := sm_N_ex p1
  obtain ⟨c, hc, C⟩ := sm_C_ex p0
  refine ⟨by decide, by decide, 15, 132, by decide, by decide, sm_init hc hn C N (fun r u1 hr q1 => ?_)⟩
  obtain ⟨f0, f1, f2, f3, f4, a1, a2, a3, a4, a5, a6, a7, a8, a9, a10, a11, a12, a13, a14, a15⟩ := u1
  refine sm_room q1 hr (fun v1 v1a v1b => sm_loss hn q1 hr (fun v2 u2 q2 v2a v2b v2c => ?_))
  obtain ⟨f0, f1, f2, f3, f4, a1, a2, a3, a4, a5, a6, a7, a8, a9, a10, a11, a12, a13, a14, a15⟩ := u2
  refine sm_gain hn q2 hr (fun v3 u3 q3 v3a v3b => ?_)
  obtain ⟨f0, f1, f2, f3, f4, a1, a2, a3, a4, a5, a6, a7, a8, a9, a10, a11, a12, a13, a14, a15⟩ := u3
  refine sm_take q3 (sm_bring hn q3 hr (fun G u4 q4 => ?_) (fun G u4 q4 => ?_))
  · obtain ⟨f0, f1, f2, f3, f4, a1, a2, a3, a4, a5, a6, a7, a8, a9, a10, a11, a12, a13, a14, a15⟩ := u4
    refine sm_jobs0 q4 (N (fun z => wL_lawOf_83 post 16 152 p2 p3 p4 p5 v1 v2 v3 0 (-1) 0 z (1 + 15) (20 + 132)) ?_)
    exact sm_83 hp hn (fun i => ⟨v1a i, v2a i, v3a i⟩) (fun i => ⟨v1b i, v2b i, v2c i, v3b i⟩) rfl (fun _ => ⟨rfl, rfl⟩) (fun g => absurd g G)
  · obtain ⟨f0, f1, f2, f3, f4, a1, a2, a3, a4, a5, a6, a7, a8, a9, a10, a11, a12, a13, a14, a15⟩ := u4
    refine sm_jobs1 q4 (N (fun z => wL_lawOf_83 post 16 152 p2 p3 p4 p5 v1 v2 v3 0 0 1 z (1 + 15) (20 + 132)) ?_)
    exact sm_83 hp hn (fun i => ⟨v1a i, v2a i, v3a i⟩) (fun i => ⟨v1b i, v2b i, v2c i, v3b i⟩) rfl (fun g => absurd G g) (fun _ => ⟨rfl, rfl⟩)
theorem sm_cell {post : Int32 → Prop} {L : Nat} {xs : Nat → Int32} {i : Nat} (hL : L ≤ 6) (hi : i < 6) (H : ∀ v, post v) : wpL_cellAt post L xs () (nI i) :=
  pk_le L i (fun _ => H _) (fun z => ⟨pk_in i L z, H _⟩)
theorem i_vc (xs : Nat → Int32) (L : Nat) (hL : L ≤ 6) : wpL_law (fun r => r = 1) L xs := by
  refine sm_cell (i := 0) hL (by omega) (fun r1 => sm_cell (i := 1) hL (by omega) (fun r2 => sm_cell (i := 2) hL (by omega) (fun r3 => sm_cell (i := 3) hL (by omega) (fun r4 => sm_cell (i := 4) hL (by omega) (fun r5 => sm_cell (i := 5) hL (by omega) (fun r6 => ?_))))))
  exact ⟨16, 152, by decide, by decide, sm_lawOf rfl r1 r2 r3 r4 r5 r6⟩
end
