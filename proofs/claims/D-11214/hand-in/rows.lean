section
section
variable {a1 a2 a3 a4 a5 a6 a7 : Nat → Int32} {b : Int32}
/-- how many binary zeros m ends with, 3 for 0 (m < 8) -/
def cb_z (m : Nat) : Nat := if m % 2 = 1 then 0 else if m / 2 % 2 = 1 then 1 else if m / 4 % 2 = 1 then 2 else 3
theorem cb_z3 (m : Nat) : cb_z m ≤ 3 := by
  unfold cb_z
  split
  · omega
  · split
    · omega
    · split <;> omega
theorem cb_zlt : ∀ m, m < 8 → m ≠ 0 → cb_z m < 3 := by decide
theorem cb_bit : ∀ m, m < 8 → ∀ k, k < 3 → (((nI m >>> (nI k &&& 31)) &&& 1) = 1 ↔ m / 2 ^ k % 2 = 1) := by decide +kernel
theorem cb_le3 {p : Nat} (h : p ≤ 3) : p = 0 ∨ p = 1 ∨ p = 2 ∨ p = 3 := by omega
theorem cb_05 (i : Nat) : (0 : Int32) * 5 + nI i = nI i := by
  show nI 0 * nI 5 + nI i = nI i
  rw [pk_mul, nI_add, show 0 * 5 + i = i by omega]
theorem cb_c05 {i : Nat} (h : i < 2 ^ 31) : ((0 : Int32) * 5 + nI i).toNatClampNeg = i := by rw [cb_05, nI_clamp h]
/-- a loop that writes one place a turn: below i the new row, from i on the old one -/
def cb_B (f g : Nat → Int32) (i : Nat) (s : Nat → Int32) : Prop := (∀ j, j < i → s j = f j) ∧ (∀ j, i ≤ j → s j = g j)
theorem cb_B0 (f g : Nat → Int32) : cb_B f g 0 g := ⟨fun j h => absurd h (by omega), fun j _ => rfl⟩
theorem cb_fill {f g s : Nat → Int32} {i k : Nat} {x : Int32} (h : cb_B f g i s) (hk : k = i) (hx : x = f i) : cb_B f g (i + 1) (upd s k x) := by
  refine ⟨fun j hj => ?_, fun j hj => ?_⟩
  · rw [hk]
    by_cases e : j = i
    · rw [e, pk_us, hx]
    · rw [pk_un e]
      exact h.1 j (by omega)
  · rw [hk, pk_un (by omega)]
    exact h.2 j (by omega)
theorem cb_zeros {post : Int32 → Prop} {f0 f2 x : Int32} {m : Nat} (hm : m < 8) (hx : x = nI m) (H : post (nI (cb_z m))) : wpX_zeros post (f0, 3, f2, b, a1, a2, a3, a4, a5, a6, a7) x := by
  subst hx
  have k0 := cb_bit m hm 0 (by omega)
  have k1 := cb_bit m hm 1 (by omega)
  have k2 := cb_bit m hm 2 (by omega)
  simp only [Nat.pow_zero, Nat.pow_one, Nat.div_one] at k0 k1 k2
  refine ⟨4, br_f (by decide) (br_c (fun h => ?_) (fun h => nm_r (e' := nI 1) rfl (br_f (by decide) (br_c (fun h' => ?_) (fun h' => nm_r (e' := nI 2) rfl (br_f (by decide) (br_c (fun h'' => ?_) (fun h'' => nm_r (e' := nI 3) rfl (br_t (by decide) ?_)))))))))⟩
  · have e := k0.mp h
    have z : cb_z m = 0 := by unfold cb_z; rw [if_pos e]
    rw [z] at H
    exact H
  · have e := fun t => h (k0.mpr t)
    have e' := k1.mp h'
    have z : cb_z m = 1 := by unfold cb_z; rw [if_neg e, if_pos e']
    rw [z] at H
    exact H
  · have e := fun t => h (k0.mpr t)
    have e' := fun t => h' (k1.mpr t)
    have e'' := k2.mp h''
    have z : cb_z m = 2 := by unfold cb_z; rw [if_neg e, if_neg e', if_pos e'']
    rw [z] at H
    exact H
  · have e := fun t => h (k0.mpr t)
    have e' := fun t => h' (k1.mpr t)
    have e'' := fun t => h'' (k2.mpr t)
    have z : cb_z m = 3 := by unfold cb_z; rw [if_neg e, if_neg e', if_neg e'']
    rw [z] at H
    exact H
theorem cb_sub {post : St2 → Prop} {f : Int32} (H : ∀ w : Nat → Int32, (∀ j, j < 5 → w j = (a6 j - f * a4 j) &&& ((8 : Int32) - 1)) → post (1, 3, 8, b, a1, a2, a3, a4, a5, w, a7)) : wpX_subtract post (1, 3, 8, b, a1, a2, a3, a4, a5, a6, a7) 0 f :=
  pk_loop (fun n i s => wX_subtract_2 post 0 f 1 3 8 b n (nI i) a1 a2 a3 a4 a5 s a7) (fun i s => cb_B (fun j => (a6 j - f * a4 j) &&& ((8 : Int32) - 1)) a6 i s) 5 0 a6 (by omega) (cb_B0 _ _)
    (fun n s h => pk_le 5 5 (fun _ => H s h.1) (fun z => absurd z (by omega)))
    (fun n i s hi h hw => pk_le 5 i (fun z => absurd z (by omega)) (fun _ => ⟨pk_in i 5 hi, pk_in i 20 (by omega) (cb_05 i), pk_in i 5 hi, nm_e (nm_r (nI_1 i) (hw _ (cb_fill h (nI_clamp (by omega)) (by rw [cb_c05 (by omega), nI_clamp (by omega), h.2 i (by omega)]))))⟩))
theorem cb_scale {post : St2 → Prop} {f : Int32} (H : ∀ w : Nat → Int32, (∀ j, j < 5 → w j = (a6 j * f) &&& ((8 : Int32) - 1)) → post (1, 3, 8, b, a1, a2, a3, a4, a5, w, a7)) : wpX_scaleWork post (1, 3, 8, b, a1, a2, a3, a4, a5, a6, a7) f :=
  pk_loop (fun n i s => wX_scaleWork_2 post f 1 3 8 b n (nI i) a1 a2 a3 a4 a5 s a7) (fun i s => cb_B (fun j => (a6 j * f) &&& ((8 : Int32) - 1)) a6 i s) 5 0 a6 (by omega) (cb_B0 _ _)
    (fun n s h => pk_le 5 5 (fun _ => H s h.1) (fun z => absurd z (by omega)))
    (fun n i s hi h hw => pk_le 5 i (fun z => absurd z (by omega)) (fun _ => ⟨pk_in i 5 hi, pk_in i 5 hi, nm_e (nm_r (nI_1 i) (hw _ (cb_fill h (nI_clamp (by omega)) (by rw [nI_clamp (by omega), h.2 i (by omega)]))))⟩))
theorem cb_exch {post : St2 → Prop} (H : ∀ v w : Nat → Int32, (∀ j, j < 5 → v j = a6 j) → (∀ j, j < 5 → w j = a4 j) → post (1, 3, 8, b, a1, a2, a3, v, a5, w, a7)) : wpX_exchange post (1, 3, 8, b, a1, a2, a3, a4, a5, a6, a7) 0 :=
  pk_loop (σ := (Nat → Int32) × (Nat → Int32)) (fun n i s => wX_exchange_2 post 0 1 3 8 b n (nI i) a1 a2 a3 s.1 a5 s.2 a7) (fun i s => cb_B a6 a4 i s.1 ∧ cb_B a4 a6 i s.2) 5 0 (a4, a6) (by omega) ⟨cb_B0 _ _, cb_B0 _ _⟩
    (fun n s h => pk_le 5 5 (fun _ => H s.1 s.2 h.1.1 h.2.1) (fun z => absurd z (by omega)))
    (fun n i s hi h hw => pk_le 5 i (fun z => absurd z (by omega)) (fun _ => ⟨pk_in i 20 (by omega) (cb_05 i), nm_e ⟨pk_in i 5 hi, pk_in i 20 (by omega) (cb_05 i), nm_e ⟨pk_in i 5 hi, nm_e (nm_r (nI_1 i) (hw (_, _) ⟨cb_fill h.1 (cb_c05 (by omega)) (by rw [nI_clamp (by omega), h.2.2 i (by omega)]), cb_fill h.2 (nI_clamp (by omega)) (by rw [cb_c05 (by omega), h.1.2 i (by omega)])⟩))⟩⟩⟩))
theorem cb_start {post : St2 → Prop} (H : ∀ v w : Nat → Int32, (∀ j, j < 20 → v j = 0) → (∀ j, j < 4 → w j = 3) → post (1, 3, 8, 0, a1, a2, a3, v, w, a6, a7)) : wpX_startBasis post (1, 3, 8, b, a1, a2, a3, a4, a5, a6, a7) :=
  pk_loop (fun n i s => wX_startBasis_7 post 1 3 8 0 n (nI i) a1 a2 a3 s a5 a6 a7) (fun i s => cb_B (fun _ => 0) a4 i s) 20 0 a4 (by omega) (cb_B0 _ _)
    (fun n s h => pk_le 20 20 (fun _ => pk_loop (fun n i t => wX_startBasis_28 post 1 3 8 0 n (nI i) a1 a2 a3 s t a6 a7) (fun i t => cb_B (fun _ => 3) a5 i t) 4 0 a5 (by omega) (cb_B0 _ _)
      (fun n t ht => pk_le 4 4 (fun _ => H s t h.1 ht.1) (fun z => absurd z (by omega)))
      (fun n i t hi ht hw => pk_le 4 i (fun z => absurd z (by omega)) (fun _ => ⟨pk_in i 4 hi, nm_e (nm_r (nI_1 i) (hw _ (cb_fill ht (nI_clamp (by omega)) rfl)))⟩))) (fun z => absurd z (by omega)))
    (fun n i s hi h hw => pk_le 20 i (fun z => absurd z (by omega)) (fun _ => ⟨pk_in i 20 hi, nm_e (nm_r (nI_1 i) (hw _ (cb_fill h (nI_clamp (by omega)) rfl)))⟩))
theorem cb_clear {post : St2 → Prop} (H : ∀ w : Nat → Int32, (∀ j, j < 5 → w j = 0) → post (1, 3, 8, b, a1, a2, a3, a4, a5, w, a7)) : wpX_clearWork post (1, 3, 8, b, a1, a2, a3, a4, a5, a6, a7) :=
  pk_loop (fun n i s => wX_clearWork_2 post 1 3 8 b n (nI i) a1 a2 a3 a4 a5 s a7) (fun i s => cb_B (fun _ => 0) a6 i s) 5 0 a6 (by omega) (cb_B0 _ _)
    (fun n s h => pk_le 5 5 (fun _ => H s h.1) (fun z => absurd z (by omega)))
    (fun n i s hi h hw => pk_le 5 i (fun z => absurd z (by omega)) (fun _ => ⟨pk_in i 5 hi, nm_e (nm_r (nI_1 i) (hw _ (cb_fill h (nI_clamp (by omega)) rfl)))⟩))
theorem cb_draftLoad {post : St2 → Prop} {f : Int32} (H : ∀ w : Nat → Int32, w 0 = (a3 0 * f) &&& ((8 : Int32) - 1) → post (1, 3, 8, b, a1, a2, a3, a4, a5, w, a7)) : wpX_loadDraft post (1, 3, 8, b, a1, a2, a3, a4, a5, a6, a7) f :=
  pk_loop (fun n i s => wX_loadDraft_2 post f 1 3 8 b n (nI i) a1 a2 a3 a4 a5 s a7) (fun i s => cb_B (fun j => (a3 j * f) &&& ((8 : Int32) - 1)) a6 i s) 5 0 a6 (by omega) (cb_B0 _ _)
    (fun n s h => pk_le 5 5 (fun _ => nm_e (H _ (by rw [pk_un (by omega)]; exact h.1 0 (by omega)))) (fun z => absurd z (by omega)))
    (fun n i s hi h hw => pk_le 5 i (fun z => absurd z (by omega)) (fun _ => ⟨pk_in i 5 hi, pk_in i 5 hi, nm_e (nm_r (nI_1 i) (hw _ (cb_fill h (nI_clamp (by omega)) (by rw [nI_clamp (by omega)]))))⟩))
theorem cb_at (s : Nat) : (nI s * 10 + 0) * 5 = nI (50 * s) := by
  show (nI s * nI 10 + nI 0) * nI 5 = nI (50 * s)
  rw [pk_mul, nI_add, pk_mul, show (s * 10 + 0) * 5 = 50 * s by omega]
theorem cb_load {post : St2 → Prop} {s : Nat} (hs : s < 2) (H : ∀ w : Nat → Int32, (∀ j, j < 5 → w j = a1 (50 * s + j)) → post (1, 3, 8, b, a1, a2, a3, a4, a5, w, a7)) : wpX_loadLine post (1, 3, 8, b, a1, a2, a3, a4, a5, a6, a7) (nI s) 0 := by
  unfold wpX_loadLine
  refine nm_r (cb_at s) ?_
  exact pk_loop (fun n i t => wX_loadLine_12 post (nI (50 * s)) 1 3 8 b n (nI i) a1 a2 a3 a4 a5 t a7) (fun i t => cb_B (fun j => a1 (50 * s + j)) a6 i t) 5 0 a6 (by omega) (cb_B0 _ _)
    (fun n t h => pk_le 5 5 (fun _ => H t h.1) (fun z => absurd z (by omega)))
    (fun n i t hi h hw => pk_le 5 i (fun z => absurd z (by omega)) (fun _ => ⟨pk_in (50 * s + i) 100 (by omega) (nI_add _ _), pk_in i 5 hi, nm_e (nm_r (nI_1 i) (hw _ (cb_fill h (nI_clamp (by omega)) (by rw [nI_add, nI_clamp (by omega)]))))⟩))
end
end
section
section
variable {a1 a2 a3 a4 a5 a6 a7 : Nat → Int32} {b : Int32}
theorem cb_jp : ∀ m, m < 8 → m ≠ 0 → ∀ r, r < 8 → ((((0 : Int32) - ((1 : Int32) <<< (((3 : Int32) - nI (cb_z m)) &&& 31)) * ((nI r * (((nI m >>> (nI (cb_z m) &&& 31)) * (nI m >>> (nI (cb_z m) &&& 31))) * (nI m >>> (nI (cb_z m) &&& 31)))) &&& ((8 : Int32) - 1))) &&& ((8 : Int32) - 1)) = 0 ↔ r % 2 ^ cb_z m = 0) := by decide +kernel
theorem cb_r0 : ∀ r, r < 8 → (nI r = 0 ↔ r % 2 ^ cb_z 0 = 0) := by decide +kernel
theorem cb_m0 : ∀ m, m < 8 → m ≠ 0 → ¬ nI m = 0 := by decide +kernel
theorem cb_join {post : St2 → Prop} {m r : Nat} (hm : m < 8) (hr : r < 8) (h0 : a6 0 = nI m) (h4 : a6 4 = nI r) (g4 : a4 4 = 0) (p0 : a5 0 = 3)
    (H : ∀ (b' : Int32) (v w5 w6 : Nat → Int32), w5 0 = nI (cb_z m) → b' = (if r % 2 ^ cb_z m = 0 then b else 1) → post (1, 3, 8, b', a1, a2, a3, v, w5, w6, a7)) :
    wpX_join post (1, 3, 8, b, a1, a2, a3, a4, a5, a6, a7) := by
  have fin : ∀ v w5 w6 : Nat → Int32, w5 0 = nI (cb_z m) → (w6 4 = 0 ↔ r % 2 ^ cb_z m = 0) → ((w6 4 = 0 → post (1, 3, 8, b, a1, a2, a3, v, w5, w6, a7)) ∧ (¬ w6 4 = 0 → post (1, 3, 8, 1, a1, a2, a3, v, w5, w6, a7))) := fun v w5 w6 h5 h6 => br_c (fun h => H b v w5 w6 h5 (by rw [if_pos (h6.mp h)])) (fun h => H 1 v w5 w6 h5 (by rw [if_neg (fun t => h (h6.mpr t))]))
  by_cases e : m = 0
  · subst e
    refine ⟨2, br_f (by decide) ⟨pk_in 0 5 (by omega), br_t h0 (nm_r (e' := 1) (by decide) (br_t (by decide) (fin a4 a5 a6 (by rw [p0]; decide) ?_)))⟩⟩
    rw [h4]
    exact cb_r0 r hr
  · have hz := cb_zlt m hm e
    have n0 : ¬ a6 0 = 0 := by rw [h0]; exact cb_m0 m hm e
    refine ⟨2, br_f (by decide) ⟨pk_in 0 5 (by omega), br_f n0 ⟨pk_in 0 5 (by omega), cb_zeros hm h0 ⟨pk_in 0 4 (by omega), nm_r (e' := 3) p0 (br_f (nI_ge (b := 3) hz (by decide)) ⟨pk_in 0 5 (by omega), nm_r (e' := nI m >>> (nI (cb_z m) &&& 31)) ?_ ?_⟩)⟩⟩⟩⟩
    · show a6 0 >>> (nI (cb_z m) &&& 31) = _
      rw [h0]
    · refine cb_scale (fun w hw => cb_exch (fun v w' hv hw' => ⟨pk_in 0 4 (by omega), nm_e (cb_sub (fun y hy => nm_r (e' := 1) (by decide) (br_t (by decide) (fin v _ y ?_ ?_))))⟩))
      · exact pk_us
      · rw [hy 4 (by omega), hw' 4 (by omega), g4, hv 4 (by omega), hw 4 (by omega), h4]
        exact cb_jp m hm e r hr
/-- what system s holds: nothing (its power 3, not bad), or one line m, r -/
def cb_P (a1 a2 : Nat → Int32) (s p : Nat) (d : Int32) : Prop := (a2 s = 0 ∧ p = 3 ∧ d = 0) ∨ (a2 s = 1 ∧ ∃ m r : Nat, m < 8 ∧ r < 8 ∧ a1 (50 * s) = nI m ∧ a1 (50 * s + 4) = nI r ∧ p = cb_z m ∧ d = if r % 2 ^ cb_z m = 0 then 0 else 1)
theorem cb_P3 {s p : Nat} {d : Int32} (h : cb_P a1 a2 s p d) : p ≤ 3 := by
  rcases h with ⟨_, h, _⟩ | ⟨_, m, r, _, _, _, _, h, _⟩
  · omega
  · rw [h]
    exact cb_z3 m
theorem cb_build {post : St2 → Prop} {s p : Nat} {d : Int32} (hs : s < 2) (hP : cb_P a1 a2 s p d) (H : ∀ v w5 w6 : Nat → Int32, w5 0 = nI p → post (1, 3, 8, d, a1, a2, a3, v, w5, w6, a7)) : wpX_build post (1, 3, 8, b, a1, a2, a3, a4, a5, a6, a7) (nI s) := by
  unfold wpX_build
  refine cb_start (fun v w hv hw => ?_)
  have hc : (nI s).toNatClampNeg = s := nI_clamp (by omega)
  rcases hP with ⟨h0, hp, hd⟩ | ⟨h1, m, r, hm, hr, e0, e4, hp, hd⟩
  · subst hp hd
    exact ⟨1, vp_in_nI hs (by decide), br_t (by rw [hc, h0]; decide) (H v w a6 (hw 0 (by omega)))⟩
  · refine ⟨2, vp_in_nI hs (by decide), br_f (by rw [hc, h1]; decide) (cb_load hs (fun y hy => cb_join hm hr ((hy 0 (by omega)).trans e0) ((hy 4 (by omega)).trans e4) (hv 4 (by omega)) (hw 0 (by omega)) (fun b' v' w5 w6 h5 hb => nm_r (e' := 1) (by decide) ⟨vp_in_nI hs (by decide), br_t (by rw [hc, h1]; decide) ?_⟩)))⟩
    have e : b' = d := by rw [hb, hd]
    subst e
    exact H v' w5 w6 (by rw [hp]; exact h5)
theorem cb_sh : ∀ p, p < 4 → (1 : Int32) <<< (nI p &&& 31) = nI (2 ^ p) := by decide +kernel
theorem cb_total {post : Int32 → Prop} {p : Nat} {d : Int32} (hp : p ≤ 3) (h5 : a5 0 = nI p) (H : post (if d = 0 then nI (2 ^ p) else 0)) : wpX_total post (1, 3, 8, d, a1, a2, a3, a4, a5, a6, a7) := by
  unfold wpX_total
  refine br_c (fun h => ?_) (fun h => ?_)
  · rw [if_pos h] at H
    refine ⟨2, br_f (by decide) ⟨pk_in 0 4 (by omega), nm_r (e' := nI p) ?_ (nm_r (e' := 1) (by decide) (br_t (by decide) ?_))⟩⟩
    · show 0 + a5 0 = nI p
      rw [h5, Int32.zero_add]
    · rw [← cb_sh p (by omega)] at H
      exact H
  · rw [if_neg h] at H
    exact H
theorem cb_sys {Q : Int32 → Prop} {s : Nat} (hs : s < 2) (H : Q 1) : wpX_isSystem Q () (nI s) := by
  have e : s = 0 ∨ s = 1 := by omega
  rcases e with e | e
  · subst e
    exact br_t (by decide) H
  · subst e
    exact br_f (by decide) (br_t (by decide) H)
theorem cb_nsys {Q : Int32 → Prop} {x : Int32} (h0 : ¬ x = 0) (h1 : ¬ x = 1) (H : Q 0) : wpX_isSystem Q () x := br_f h0 (br_f h1 H)
theorem cb_sol {post : Int32 → St2 → Prop} {s p : Nat} {d : Int32} (hs : s < 2) (hP : cb_P a1 a2 s p d) (H : ∀ v w5 w6 : Nat → Int32, post (if d = 0 then nI (2 ^ p) else 0) (1, 3, 8, d, a1, a2, a3, v, w5, w6, a7)) : wpX_solutions post (1, 3, 8, b, a1, a2, a3, a4, a5, a6, a7) (nI s) := by
  unfold wpX_solutions
  exact cb_sys hs (br_f (by decide) (cb_build hs hP (fun v w5 w6 h5 => cb_total (cb_P3 hP) h5 (H v w5 w6))))
theorem cb_solN {post : Int32 → St2 → Prop} {x : Int32} (h0 : ¬ x = 0) (h1 : ¬ x = 1) (H : post (-1) (1, 3, 8, b, a1, a2, a3, a4, a5, a6, a7)) : wpX_solutions post (1, 3, 8, b, a1, a2, a3, a4, a5, a6, a7) x := by
  unfold wpX_solutions
  exact cb_nsys h0 h1 (br_t rfl H)
theorem cb_van {post : Int32 → St2 → Prop} {m p : Nat} (hm : m < 8) (hp : p ≤ 3) (h6 : a6 0 = nI m) (h5 : a5 0 = nI p) (H1 : p ≤ cb_z m → ∀ w : Nat → Int32, post 1 (1, 3, 8, b, a1, a2, a3, a4, a5, w, a7)) (H0 : cb_z m < p → post 0 (1, 3, 8, b, a1, a2, a3, a4, a5, a6, a7)) : wpX_vanishes post (1, 3, 8, b, a1, a2, a3, a4, a5, a6, a7) := by
  have hz := cb_z3 m
  exact ⟨2, br_f (by decide) ⟨pk_in 0 5 (by omega), cb_zeros hm h6 ⟨pk_in 0 4 (by omega), pk_le p (cb_z m) (fun h => ⟨pk_in 0 5 (by omega), pk_in 0 4 (by omega), cb_sub (fun w _ => nm_r (e' := 1) (by decide) (br_t (by decide) (H1 h w)))⟩) (fun h => H0 h) h5 rfl (by omega) (by omega)⟩⟩⟩
theorem cb_z2 : ∀ k, k < 3 → 2 ^ k < 8 ∧ cb_z (2 ^ k) = k := by decide
theorem cb_3m : ∀ p, p < 4 → (3 : Int32) - nI p = nI (3 - p) := by decide +kernel
theorem cb_set {post : Int32 → St2 → Prop} {s p : Nat} {d : Int32} (hs : s < 2) (hP : cb_P a1 a2 s p d) (H : ∀ v w5 w6 : Nat → Int32, post (if d = 0 then nI (3 - p) else -3) (1, 3, 8, d, a1, a2, a3, v, w5, w6, a7)) : wpX_settledBits post (1, 3, 8, b, a1, a2, a3, a4, a5, a6, a7) (nI s) 0 := by
  have hp := cb_P3 hP
  unfold wpX_settledBits
  refine cb_sys hs (br_f (by decide) (br_f (by decide) (br_t (by decide) (cb_build hs hP (fun v w5 w6 h5 => br_c (fun h => ?_) (fun h => ?_))))))
  · rw [if_pos h] at H
    subst h
    refine pk_loop (fun n k t => wX_settledBits_41 post 0 n (nI k) 1 3 8 0 a1 a2 a3 v w5 t a7) (fun _ _ => True) p 0 w6 (by omega) trivial (fun n t _ => ?_) (fun n k t hk _ hw => ?_)
    · refine pk_le 3 p (fun z => ?_) (fun z => cb_clear (fun w _ => ⟨pk_in 0 5 (by omega), nm_r (e' := upd w 0 (nI (2 ^ p))) (by rw [cb_sh p (by omega)]; rfl) (cb_van (cb_z2 p z).1 hp pk_us h5 (fun _ y => br_f (by decide) ?_) (fun q => ?_))⟩))
      · have e : p = 3 := by omega
        subst e
        exact H v w5 t
      · rw [cb_3m p (by omega)]
        exact H v w5 y
      · rw [(cb_z2 p z).2] at q
        exact absurd q (by omega)
    · refine pk_le 3 k (fun z => absurd z (by omega)) (fun z => cb_clear (fun w _ => ⟨pk_in 0 5 (by omega), nm_r (e' := upd w 0 (nI (2 ^ k))) (by rw [cb_sh k (by omega)]; rfl) (cb_van (cb_z2 k z).1 hp pk_us h5 (fun q => ?_) (fun _ => br_t rfl (nm_r (nI_1 k) (hw _ trivial))))⟩))
      rw [(cb_z2 k z).2] at q
      exact absurd q (by omega)
  · rw [if_neg h] at H
    exact H v w5 w6
theorem cb_setN {post : Int32 → St2 → Prop} {x : Int32} (h0 : ¬ x = 0) (h1 : ¬ x = 1) (H : post (-1) (1, 3, 8, b, a1, a2, a3, a4, a5, a6, a7)) : wpX_settledBits post (1, 3, 8, b, a1, a2, a3, a4, a5, a6, a7) x 0 := by
  unfold wpX_settledBits
  exact cb_nsys h0 h1 (br_t rfl H)
theorem cb_dr : ∀ c, c < 8 → ∀ k, k < 3 → (nI c * ((1 : Int32) <<< (nI k &&& 31))) &&& ((8 : Int32) - 1) = nI (c * 2 ^ k % 8) := by decide +kernel
/-- q: the first k whose draft line times 2^k vanishes -/
theorem cb_val {post : Int32 → St2 → Prop} {s p c q : Nat} {d : Int32} (hs : s < 2) (hP : cb_P a1 a2 s p d) (hc : c < 8) (h3 : a3 0 = nI c) (hq : q ≤ 3) (q0 : ∀ k, k < q → cb_z (c * 2 ^ k % 8) < p) (q1 : q < 3 → p ≤ cb_z (c * 2 ^ q % 8)) (H : ∀ v w5 w6 : Nat → Int32, post (if d = 0 then nI (2 ^ q) else 0) (1, 3, 8, d, a1, a2, a3, v, w5, w6, a7)) : wpX_values post (1, 3, 8, b, a1, a2, a3, a4, a5, a6, a7) (nI s) := by
  have hp := cb_P3 hP
  unfold wpX_values
  refine cb_sys hs (br_f (by decide) (cb_build hs hP (fun v w5 w6 h5 => br_c (fun h => ?_) (fun h => ?_))))
  · rw [if_pos h] at H
    subst h
    rw [← cb_sh q (by omega)] at H
    unfold wpX_spread
    refine pk_loop (fun n k t => wX_spread_2 _ n (nI k) 1 3 8 0 a1 a2 a3 v w5 t a7) (fun _ _ => True) q 0 w6 (by omega) trivial (fun n t _ => ?_) (fun n k t hk _ hw => ?_)
    · refine pk_le 3 q (fun z => ?_) (fun z => cb_draftLoad (fun w hw => cb_van (m := c * 2 ^ q % 8) (by omega) hp (by rw [hw, h3, cb_dr c hc q z]) h5 (fun _ y => br_f (by decide) ?_) (fun t => ?_)))
      · have e : q = 3 := by omega
        subst e
        exact H v w5 t
      · exact H v w5 y
      · have t' := q1 z
        exact absurd t (by omega)
    · refine pk_le 3 k (fun z => absurd z (by omega)) (fun z => cb_draftLoad (fun w hw' => cb_van (m := c * 2 ^ k % 8) (by omega) hp (by rw [hw', h3, cb_dr c hc k z]) h5 (fun t => ?_) (fun _ => br_t rfl (nm_r (nI_1 k) (hw _ trivial)))))
      have t' := q0 k hk
      exact absurd t (by omega)
  · rw [if_neg h] at H
    exact H v w5 w6
theorem cb_81 : (8 : Int32) - 1 = 7 := by decide
theorem cb_draft {post : Int32 → St2 → Prop} {c : Int32} {m : Nat} (hm : c &&& 7 = nI m) (H : ∀ w : Nat → Int32, w 0 = nI m → post (nI m) (1, 3, 8, b, a1, a2, w, a4, a5, a6, a7)) : wpX_draft post (1, 3, 8, b, a1, a2, a3, a4, a5, a6, a7) 0 c := by
  unfold wpX_draft
  exact br_f (by decide) (br_t (by decide) ⟨pk_in 0 5 (by omega), nm_r (e' := upd a3 0 (nI m)) (by rw [cb_81, hm]; rfl) ⟨pk_in 0 5 (by omega), H (upd a3 0 (nI m)) pk_us⟩⟩)
theorem cb_add {post : Int32 → St2 → Prop} {rhs : Int32} {s m r : Nat} (hs : s < 2) (h2 : a2 s = 0) (h3 : a3 0 = nI m) (hr : rhs &&& 7 = nI r) (H : ∀ w1 w2 : Nat → Int32, w1 (50 * s) = nI m → w1 (50 * s + 4) = nI r → w2 s = 1 → (∀ j, j ≠ s → w2 j = a2 j) → post 1 (1, 3, 8, b, w1, w2, a3, a4, a5, a6, a7)) : wpX_add post (1, 3, 8, b, a1, a2, a3, a4, a5, a6, a7) (nI s) rhs := by
  have hc : (nI s).toNatClampNeg = s := nI_clamp (by omega)
  have hv : vp_in (nI s) 2 := vp_in_nI hs (by decide)
  have e0 : nI (50 * s) + 0 = nI (50 * s) := Int32.add_zero _
  have e4 : nI (50 * s) + 4 = nI (50 * s + 4) := nI_add (50 * s) 4
  unfold wpX_add
  refine cb_sys hs (br_f (by decide) ⟨hv, br_f (by rw [hc, h2]; decide) ⟨hv, nm_r (e' := nI (50 * s)) (by rw [hc, h2]; exact cb_at s) ⟨2, br_f (by decide) ⟨pk_in 0 5 (by omega), pk_in (50 * s) 100 (by omega) e0, nm_r (e' := upd a1 (50 * s) (nI m)) ?_ (nm_r (e' := 1) (by decide) (br_t (by decide) ⟨pk_in (50 * s + 4) 100 (by omega) e4, nm_r (e' := upd (upd a1 (50 * s) (nI m)) (50 * s + 4) (nI r)) ?_ ⟨hv, hv, nm_r (e' := upd a2 s 1) ?_ ⟨hv, ?_⟩⟩⟩))⟩⟩⟩⟩)
  · rw [e0, nI_clamp (by omega), ← h3]
    rfl
  · rw [e4, nI_clamp (by omega), cb_81, hr]
  · rw [hc, h2]
    rfl
  · rw [hc, pk_us]
    refine H _ _ ?_ pk_us pk_us (fun j hj => pk_un hj)
    rw [pk_un (by omega), pk_us]
theorem cb_addN {post : Int32 → St2 → Prop} {x rhs : Int32} (h0 : ¬ x = 0) (h1 : ¬ x = 1) (H : post (-1) (1, 3, 8, b, a1, a2, a3, a4, a5, a6, a7)) : wpX_add post (1, 3, 8, b, a1, a2, a3, a4, a5, a6, a7) x rhs := by
  unfold wpX_add
  exact cb_nsys h0 h1 (br_t rfl H)
theorem cb_drop {post : Int32 → St2 → Prop} {i : Int32} {s : Nat} (hs : s < 2) (h2 : a2 s = 1) (H0 : i = 0 → ∀ w : Nat → Int32, w s = 0 → post 0 (1, 3, 8, b, a1, w, a3, a4, a5, a6, a7)) (H1 : ¬ i = 0 → post (-2) (1, 3, 8, b, a1, a2, a3, a4, a5, a6, a7)) : wpX_drop post (1, 3, 8, b, a1, a2, a3, a4, a5, a6, a7) (nI s) i := by
  have hc : (nI s).toNatClampNeg = s := nI_clamp (by omega)
  have hv : vp_in (nI s) 2 := vp_in_nI hs (by decide)
  unfold wpX_drop
  refine cb_sys hs (br_f (by decide) (br_c (fun h => H1 (fun e => ?_)) (fun h => ⟨hv, br_c (fun g => ⟨hv, nm_r (e' := nI (50 * s)) ?_ (nm_r (e' := nI (50 * s)) ?_ ⟨1, br_t (nI_le (Nat.le_refl _) (by omega)) ⟨hv, hv, nm_r (e' := upd a2 s 0) ?_ ⟨hv, ?_⟩⟩⟩)⟩) (fun g => H1 (fun e => ?_))⟩)))
  · subst e
    exact absurd h (by decide)
  · rw [hc, h2, ← cb_at s]
    grind
  · have e : i = 0 := by
      rw [hc, h2] at g
      obtain ⟨j, hj, rfl⟩ := nI_of h
      have g' := (nI_ltI (b := 1) hj (by decide)).mp g
      have e : j = 0 := by omega
      rw [e]
      rfl
    rw [e]
    exact cb_at s
  · rw [hc, h2]
    rfl
  · have e : i = 0 := by
      rw [hc, h2] at g
      obtain ⟨j, hj, rfl⟩ := nI_of h
      have g' := (nI_ltI (b := 1) hj (by decide)).mp g
      have e : j = 0 := by omega
      rw [e]
      rfl
    rw [hc, pk_us]
    exact H0 e _ pk_us
  · rw [hc, h2, e] at g
    exact g (by decide)
theorem cb_dropN {post : Int32 → St2 → Prop} {x i : Int32} (h0 : ¬ x = 0) (h1 : ¬ x = 1) (H : post (-1) (1, 3, 8, b, a1, a2, a3, a4, a5, a6, a7)) : wpX_drop post (1, 3, 8, b, a1, a2, a3, a4, a5, a6, a7) x i := by
  unfold wpX_drop
  exact cb_nsys h0 h1 (br_t rfl H)
theorem cb_size {post : Int32 → Prop} {s : Nat} (hs : s < 2) (H : post (a2 s)) : wpX_size post (1, 3, 8, b, a1, a2, a3, a4, a5, a6, a7) (nI s) := by
  unfold wpX_size
  refine cb_sys hs (br_f (by decide) ⟨vp_in_nI hs (by decide), ?_⟩)
  rw [nI_clamp (by omega)]
  exact H
theorem cb_sizeN {post : Int32 → Prop} {x : Int32} (h0 : ¬ x = 0) (h1 : ¬ x = 1) (H : post (-1)) : wpX_size post (1, 3, 8, b, a1, a2, a3, a4, a5, a6, a7) x := by
  unfold wpX_size
  exact cb_nsys h0 h1 (br_t rfl H)
end
end
section
section
variable {a1 a2 a3 a4 a5 a6 a7 : Nat → Int32} {b x0 x1 x2 x3 x4 x6 x7 x8 x9 x10 z0 z1 d : Int32} {post : Int32 → St0 → Prop} {mc ms kc ks s c m r t : Nat}
theorem cb_8 : (if (0 : Int32) = 0 then nI (2 ^ 3) else 0) = 8 := by decide +kernel
theorem cb_q0 : ∀ c, c < 8 → cb_z c ≤ cb_z (c * 2 ^ 0 % 8) := by decide +kernel
theorem cb_q1 : ∀ c, c < 8 → ∀ k, k < 3 - cb_z c → cb_z (c * 2 ^ k % 8) < 3 := by decide +kernel
theorem cb_q2 : ∀ c, c < 8 → 3 - cb_z c < 3 → 3 ≤ cb_z (c * 2 ^ (3 - cb_z c) % 8) := by decide +kernel
theorem cb_dv : ∀ c, c < 8 → (¬ nI (2 ^ cb_z c) = 0) ∧ (if (0 : Int32) = 0 then nI (2 ^ (3 - cb_z c)) else 0) = 8 / nI (2 ^ cb_z c) := by decide +kernel
/-- the law's tail, a known system: drop, size, solutions -/
theorem cb_K294 (H : post 1 ()) (hs : s < 2) {z : Nat} (hP : cb_P a1 a2 s z d) (h1 : a2 s = 1) (hx : (if d = 0 then nI (2 ^ z) else 0) = x10) (e : z1 = z0) : wL_lawOf_294 post mc ms (nI s) x3 1 x10 z0 z1 kc ks 1 3 8 b a1 a2 a3 a4 a5 a6 a7 := by
  have t0 : x3 = 0 → wL_lawOf_318 post mc ms (nI s) x3 1 x10 0 kc ks 1 3 8 b a1 a2 a3 a4 a5 a6 a7 := by
    intro h
    unfold wL_lawOf_318
    refine cb_drop hs h1 (fun _ w hw => br_t rfl (cb_size hs (br_f (by decide) (br_t h ?_)))) (fun g => absurd h g)
    unfold wL_lawOf_358
    exact br_t hw (cb_sol hs (Or.inl ⟨hw, rfl, rfl⟩) (fun v w5 w6 => br_f (by decide) (br_t h (br_t cb_8 H))))
  have t1 : ¬ x3 = 0 → wL_lawOf_318 post mc ms (nI s) x3 1 x10 (-2) kc ks 1 3 8 b a1 a2 a3 a4 a5 a6 a7 := by
    intro h
    unfold wL_lawOf_318
    refine cb_drop hs h1 (fun g => absurd g h) (fun _ => br_t rfl (cb_size hs (br_f (by decide) (br_f h ?_))))
    unfold wL_lawOf_358
    exact br_t h1 (cb_sol hs hP (fun v w5 w6 => br_f (by decide) (br_f h (br_t hx H))))
  exact br_t e (br_f (by decide) (br_c t0 t1))
/-- the law's tail, an unknown system -/
theorem cb_U294 (H : post 1 ()) (h0 : ¬ x0 = 0) (h1 : ¬ x0 = 1) (e : z1 = z0) : wL_lawOf_294 post mc ms x0 x3 0 x10 z0 z1 kc ks 1 3 8 b a1 a2 a3 a4 a5 a6 a7 := by
  refine br_t e (br_t rfl ?_)
  unfold wL_lawOf_318
  refine cb_dropN h0 h1 (br_t rfl (cb_sizeN h0 h1 (br_t rfl ?_)))
  unfold wL_lawOf_358
  exact br_t rfl (cb_solN h0 h1 (br_t rfl (br_t rfl H)))
/-- the other system holds nothing -/
theorem cb_O238 (ht : t < 2) (h2 : a2 t = 0) (hc : c < 8) (h3 : a3 0 = nI c)
    (T : ∀ v w5 w6 : Nat → Int32, wL_lawOf_294 post mc ms x0 x3 x6 x10 (8 / nI (2 ^ cb_z c)) (8 / nI (2 ^ cb_z c)) kc ks 1 3 8 0 a1 a2 a3 v w5 w6 a7) :
    wL_lawOf_238 post mc ms x0 x3 x6 (nI (2 ^ cb_z c)) x9 x10 (nI t) 0 kc ks 1 3 8 b a1 a2 a3 a4 a5 a6 a7 := by
  have hP : cb_P a1 a2 t 3 0 := Or.inl ⟨h2, rfl, rfl⟩
  unfold wL_lawOf_238
  refine cb_sol ht hP (fun v w5 w6 => br_t rfl ?_)
  unfold wL_lawOf_259
  refine br_t cb_8 (cb_val ht hP hc h3 (q := 3 - cb_z c) (by omega) (cb_q1 c hc) (cb_q2 c hc) (fun v w5 w6 => br_t rfl ⟨(cb_dv c hc).1, ?_⟩))
  rw [(cb_dv c hc).2]
  exact T v w5 w6
theorem cb_t1 (x : Int32) : ∃ t : Nat, t < 2 ∧ x &&& 1 = nI t := pk_andE x 1 (by decide)
theorem cb_K159 (H : post 1 ()) (hs : s < 2) (hc : c < 8) (h3 : a3 0 = nI c) (hP : cb_P a1 a2 s (cb_z c) d) (h1 : a2 s = 1) (ho : ∀ t, t < 2 → t ≠ s → a2 t = 0)
    (hA : (x9 = 1 ∧ x10 = nI (2 ^ cb_z c) ∧ d = 0) ∨ (x9 = 0 ∧ x10 = 0 ∧ d = 1)) : wL_lawOf_159 post mc ms (nI s) x3 x4 1 (nI (2 ^ cb_z c)) (nI (3 - cb_z c)) x9 x10 kc ks 1 3 8 b a1 a2 a3 a4 a5 a6 a7 := by
  have hx : (if d = 0 then nI (2 ^ cb_z c) else 0) = x10 := by
    rcases hA with ⟨_, h, h'⟩ | ⟨_, h, h'⟩
    · rw [h, h', if_pos rfl]
    · rw [h, h', if_neg (by decide)]
  unfold wL_lawOf_159
  refine cb_sol hs hP (fun v w5 w6 => br_f (by decide) ?_)
  unfold wL_lawOf_178
  have tail : ∀ (z0 z1 : Int32) (v w5 w6 : Nat → Int32), z1 = z0 → wL_lawOf_211 post mc ms (nI s) x3 x4 1 (nI (2 ^ cb_z c)) x9 x10 z0 z1 kc ks 1 3 8 d a1 a2 a3 v w5 w6 a7 := by
    intro z0 z1 v w5 w6 e
    obtain ⟨t, ht, et⟩ := cb_t1 x4
    refine br_t e (nm_r et (br_f (by decide) (pk_eq t s (fun g => ?_) (fun g => ?_) rfl rfl (by omega) (by omega))))
    · subst g
      unfold wL_lawOf_238
      refine cb_sol ht hP (fun v w5 w6 => br_f (by decide) ?_)
      unfold wL_lawOf_259
      refine br_t hx (cb_val ht hP hc h3 (q := 0) (by omega) (fun k hk => absurd hk (by omega)) (fun _ => cb_q0 c hc) (fun v w5 w6 => br_f (by decide) (br_c (fun h9 => cb_K294 H ht hP h1 hx ?_) (fun h9 => cb_K294 H ht hP h1 hx ?_))))
      · rcases hA with ⟨h, _, _⟩ | ⟨_, _, h'⟩
        · rw [h] at h9
          exact absurd h9 (by decide)
        · rw [h', if_neg (by decide)]
      · rcases hA with ⟨_, _, h'⟩ | ⟨h, _, _⟩
        · rw [h', if_pos rfl]
          rfl
        · exact absurd h h9
    · exact cb_O238 ht (ho t ht g) hc h3 (fun v w5 w6 => cb_K294 H hs hP h1 hx rfl)
  refine br_t hx (cb_set hs hP (fun v w5 w6 => br_f (by decide) (br_c (fun h9 => tail _ _ v w5 w6 ?_) (fun h9 => tail _ _ v w5 w6 ?_))))
  · rcases hA with ⟨h, _, _⟩ | ⟨_, _, h'⟩
    · rw [h] at h9
      exact absurd h9 (by decide)
    · rw [h', if_neg (by decide)]
  · rcases hA with ⟨_, _, h'⟩ | ⟨h, _, _⟩
    · rw [h', if_pos rfl]
    · exact absurd h h9
theorem cb_U159 (H : post 1 ()) (h0 : ¬ x0 = 0) (h1 : ¬ x0 = 1) (hc : c < 8) (h3 : a3 0 = nI c) (ho : ∀ t, t < 2 → a2 t = 0) : wL_lawOf_159 post mc ms x0 x3 x4 0 (nI (2 ^ cb_z c)) x8 x9 x10 kc ks 1 3 8 b a1 a2 a3 a4 a5 a6 a7 := by
  unfold wL_lawOf_159
  refine cb_solN h0 h1 (br_t rfl ?_)
  unfold wL_lawOf_178
  refine br_t rfl (cb_setN h0 h1 (br_t rfl ?_))
  unfold wL_lawOf_211
  obtain ⟨t, ht, et⟩ := cb_t1 x4
  exact br_t rfl (nm_r et (br_t rfl (cb_O238 ht (ho t ht) hc h3 (fun v w5 w6 => cb_U294 H h0 h1 rfl))))
theorem cb_any : ∀ z, z < 4 → ∀ r, r < 8 → ((7 : Int32) &&& (nI (2 ^ z) - 1) = nI (2 ^ z) - 1) ∧ (nI r &&& (nI (2 ^ z) - 1) = 0 ↔ r % 2 ^ z = 0) := by decide +kernel
theorem cb_stp : ∀ m, m < 8 → (nI m &&& 1 = 0 ∧ nI m &&& 2 = 0 ∧ nI m &&& 4 = 0 ∧ cb_z m = 3) ∨ (nI m &&& 1 = 0 ∧ nI m &&& 2 = 0 ∧ ¬ nI m &&& 4 = 0 ∧ cb_z m = 2) ∨ (nI m &&& 1 = 0 ∧ ¬ nI m &&& 2 = 0 ∧ cb_z m = 1) ∨ (¬ nI m &&& 1 = 0 ∧ cb_z m = 0) := by decide +kernel
theorem cb_mk {x k y : Int32} (hy : x &&& 7 = y) (hk : (7 : Int32) &&& k = k) : x &&& k = y &&& k := by rw [← hy, Int32.and_assoc, hk]
/-- step, settled, any, count: the law's own numbers -/
theorem cb_60 (hm : m < 8) (hr : r < 8) (e1 : x1 &&& 7 = nI m) (e2 : x2 &&& 7 = nI r) (e : z1 = z0)
    (T1 : r % 2 ^ cb_z m = 0 → wL_lawOf_159 post mc ms x0 x3 x4 x6 (nI (2 ^ cb_z m)) (nI (3 - cb_z m)) 1 (nI (2 ^ cb_z m)) kc ks 1 3 8 b a1 a2 a3 a4 a5 a6 a7)
    (T0 : ¬ r % 2 ^ cb_z m = 0 → wL_lawOf_159 post mc ms x0 x3 x4 x6 (nI (2 ^ cb_z m)) (nI (3 - cb_z m)) 0 0 kc ks 1 3 8 b a1 a2 a3 a4 a5 a6 a7) :
    wL_lawOf_60 post mc ms x0 x1 x2 x3 x4 x6 z0 z1 kc ks 1 3 8 b a1 a2 a3 a4 a5 a6 a7 := by
  have hz := cb_z3 m
  have ha := cb_any (cb_z m) (by omega) r hr
  have t130 : wL_lawOf_130 post mc ms x0 x2 x3 x4 x6 (nI (2 ^ cb_z m)) (nI (3 - cb_z m)) kc ks 1 3 8 b a1 a2 a3 a4 a5 a6 a7 := by
    unfold wL_lawOf_130
    rw [cb_mk e2 ha.1]
    exact br_c (fun h => br_f (by decide) (T1 (ha.2.mp h))) (fun h => br_t rfl (T0 (fun g => h (ha.2.mpr g))))
  have k1 := cb_mk (k := 1) e1 (by decide)
  have k2 := cb_mk (k := 2) e1 (by decide)
  have k4 := cb_mk (k := 4) e1 (by decide)
  unfold wL_lawOf_60
  rw [k1, k2, k4]
  rcases cb_stp m hm with ⟨g1, g2, g4, g⟩ | ⟨g1, g2, g4, g⟩ | ⟨g1, g2, g⟩ | ⟨g1, g⟩
  · rw [g] at t130
    exact br_t e (br_t g1 (br_t g2 (br_t g4 (br_f (by decide) (br_f (by decide) (br_f (by decide) t130))))))
  · rw [g] at t130
    exact br_t e (br_t g1 (br_t g2 (br_f g4 (br_f (by decide) (br_f (by decide) (br_t (by decide) t130))))))
  · rw [g] at t130
    exact br_t e (br_t g1 (br_f g2 (br_f (by decide) (br_t (by decide) t130))))
  · rw [g] at t130
    exact br_t e (br_f g1 (br_t (by decide) t130))
theorem cb_m8 (x : Int32) : ∃ m : Nat, m < 8 ∧ x &&& 7 = nI m := pk_andE x 3 (by decide)
theorem cb_K41 (H : post 1 ()) (hs : s < 2) (hm : m < 8) (e1 : x1 &&& 7 = nI m) (h3 : a3 0 = nI m) (h2 : ∀ t, t < 2 → a2 t = 0) : wL_lawOf_41 post mc ms (nI s) x1 x2 x3 x4 1 kc ks 1 3 8 b a1 a2 a3 a4 a5 a6 a7 := by
  obtain ⟨r, hr, e2⟩ := cb_m8 x2
  unfold wL_lawOf_41
  refine cb_add hs (h2 s hs) h3 e2 (fun w1 w2 f0 f4 g1 g2 => br_f (by decide) (cb_60 hm hr e1 e2 rfl (fun h => ?_) (fun h => ?_)))
  · exact cb_K159 (d := 0) H hs hm h3 (Or.inr ⟨g1, m, r, hm, hr, f0, f4, rfl, by rw [if_pos h]⟩) g1 (fun t ht n => by rw [g2 t n, h2 t ht]) (Or.inl ⟨rfl, rfl, rfl⟩)
  · exact cb_K159 (d := 1) H hs hm h3 (Or.inr ⟨g1, m, r, hm, hr, f0, f4, rfl, by rw [if_neg h]⟩) g1 (fun t ht n => by rw [g2 t n, h2 t ht]) (Or.inr ⟨rfl, rfl, rfl⟩)
theorem cb_U41 (H : post 1 ()) (h0 : ¬ x0 = 0) (h1 : ¬ x0 = 1) (hm : m < 8) (e1 : x1 &&& 7 = nI m) (h3 : a3 0 = nI m) (h2 : ∀ t, t < 2 → a2 t = 0) : wL_lawOf_41 post mc ms x0 x1 x2 x3 x4 0 kc ks 1 3 8 b a1 a2 a3 a4 a5 a6 a7 := by
  obtain ⟨r, hr, e2⟩ := cb_m8 x2
  unfold wL_lawOf_41
  exact cb_addN h0 h1 (br_t rfl (cb_60 hm hr e1 e2 rfl (fun h => cb_U159 H h0 h1 hm h3 h2) (fun h => cb_U159 H h0 h1 hm h3 h2)))
theorem cb_init {post : St2 → Prop} (H : post (1, 3, 8, 0, (fun _ => 0), (fun _ => 0), (fun _ => 0), (fun _ => 0), (fun _ => 0), (fun _ => 0), (fun _ => 0))) : wpX_init post 7 140 (0, 0, 0, 0) 1 3 := by
  unfold wpX_init
  exact ⟨by omega, by omega, by omega, by omega, by omega, by omega, by omega, by omega, by omega, by omega, by omega, by omega, by omega, by omega, br_t (by decide) (br_t (by decide) (br_f (by decide) (br_t (by decide) (br_t (by decide) (nm_r (e' := 8) (by decide) H)))))⟩
theorem cb_lawOf (H : post 1 ()) : wpL_lawOf post 8 151 () x0 x1 x2 x3 x4 := by
  obtain ⟨m, hm, e1⟩ := cb_m8 x1
  unfold wpL_lawOf
  refine ⟨by omega, by omega, 7, 140, by omega, by omega, cb_init (cb_draft e1 (fun w hw => br_t e1.symm (br_c (fun h => ?_) (fun h0 => br_c (fun h => ?_) (fun h1 => ?_)))))⟩
  · subst h
    exact cb_K41 (s := 0) H (by omega) hm e1 hw (fun _ _ => rfl)
  · subst h
    exact cb_K41 (s := 1) H (by omega) hm e1 hw (fun _ _ => rfl)
  · exact cb_U41 H h0 h1 hm e1 hw (fun _ _ => rfl)
theorem cb_cell {Q : Int32 → Prop} {L : Nat} {xs : Nat → Int32} (hL : L ≤ 5) (k : Nat) (hk : k < 5) (H : ∀ x, Q x) : wpL_cellAt Q L xs () (nI k) :=
  pk_le L k (fun _ => H 0) (fun h => ⟨vp_in_nI h (by omega), H _⟩) rfl rfl (by omega) (by omega)
end
theorem i_vc (xs : Nat → Int32) (L : Nat) (hL : L ≤ 5) : wpL_law (fun r => r = 1) L xs :=
  cb_cell hL 0 (by omega) (fun _ => cb_cell hL 1 (by omega) (fun _ => cb_cell hL 2 (by omega) (fun _ => cb_cell hL 3 (by omega) (fun _ => cb_cell hL 4 (by omega) (fun _ => ⟨8, 151, by omega, by omega, cb_lawOf rfl⟩)))))
end
