section
section
variable {mh po sz qh qc ju st aa tp md ch fk : Int32} {a1 a2 a3 a4 a5 a6 a7 a8 a9 a10 : Nat → Int32}
/-- every entry of the queue is a node -/
def pj_Q (a : Nat → Int32) : Prop := ∀ j, ∃ k, k < 80 ∧ a j = nI k
/-- the start's distance: none yet, or zero -/
def pj_D (a : Nat → Int32) : Prop := a 0 = 0 ∨ a 0 < 0
theorem pj_b8 : ∀ n, n < 80 → (nI n).toInt8.toInt32 = nI n := by decide +kernel
theorem pj_Q0 : pj_Q (fun _ => 0) := fun _ => ⟨0, by omega, rfl⟩
theorem pj_Qu {a : Nat → Int32} (h : pj_Q a) (i : Nat) {k : Nat} (hk : k < 80) {x : Int32} (ex : x = nI k) : pj_Q (upd a i x.toInt8.toInt32) := by
  intro j
  by_cases e : j = i
  · subst e
    refine ⟨k, hk, ?_⟩
    rw [pk_us, ex]
    exact pj_b8 k hk
  · obtain ⟨m, hm, e2⟩ := h j
    exact ⟨m, hm, (pk_un e).trans e2⟩
theorem pj_Du {a : Nat → Int32} (h : pj_D a) (i : Nat) : pj_D (upd a i (-1)) := by
  by_cases e : 0 = i
  · subst e
    refine Or.inr ?_
    rw [pk_us]
    decide
  · unfold pj_D
    rw [pk_un e]
    exact h
theorem pj_node (p h : Nat) : nI p * 5 + nI h = nI (p * 5 + h) := by
  show nI p * nI 5 + nI h = nI (p * 5 + h)
  rw [pk_mul, nI_add]
theorem pj_div {k : Nat} (hk : k < 80) : nI k / 5 = nI (k / 5) := pk_div (d := 5) (by omega) (by omega) (by omega)
theorem pj_rem {k : Nat} (hk : k < 80) : nI k - nI k / 5 * 5 = nI (k % 5) := pk_rem (d := 5) (by omega) (by omega) (by omega)
/-- how many cells an instruction needs -/
def pj_n (op : Int32) : Nat := if op = 4 then 2 else if op = 5 then 2 else if op = 7 then 2 else if op = 12 then 2 else if op = 2 then 1 else if op = 3 then 1 else if op = 6 then 1 else if op = 9 then 1 else if op = 13 then 1 else 0
/-- by how many cells the stack grows -/
def pj_g (op : Int32) : Int32 := if op = 0 then 1 else if op = 1 then 1 else if op = 3 then 1 else if op = 8 then 1 else if op = 7 then -2 else if op = 2 then -1 else if op = 5 then -1 else if op = 9 then -1 else if op = 12 then -1 else 0
theorem pj_n3 (op : Int32) : pj_n op < 3 := by
  unfold pj_n
  repeat' split
  all_goals omega
theorem pj_needs {post : Int32 → Prop} {op : Int32} (h : post (nI (pj_n op))) : wpX_needs post () op := by
  unfold pj_n at h
  unfold wpX_needs
  repeat (refine br_c (fun e => by rw [if_pos e] at h; exact h) (fun e => ?_); rw [if_neg e] at h)
  exact h
theorem pj_growth {post : Int32 → Prop} {op : Int32} (h : post (pj_g op)) : wpX_growth post () op := by
  unfold pj_g at h
  unfold wpX_growth
  repeat (refine br_c (fun e => by rw [if_pos e] at h; exact h) (fun e => ?_); rw [if_neg e] at h)
  exact h
theorem pj_fit (op : Int32) {h : Nat} (hh : h < 5) (h1 : pj_n op ≤ h) (h2 : pj_g op ≤ 0 ∨ h < 4) : ∃ k, k < 5 ∧ nI h + pj_g op = nI k := by
  by_cases e0 : op = 0
  · subst e0
    exact (by decide +kernel : ∀ h, h < 5 → pj_n 0 ≤ h → (pj_g 0 ≤ 0 ∨ h < 4) → ∃ k, k < 5 ∧ nI h + pj_g 0 = nI k) h hh h1 h2
  by_cases e1 : op = 1
  · subst e1
    exact (by decide +kernel : ∀ h, h < 5 → pj_n 1 ≤ h → (pj_g 1 ≤ 0 ∨ h < 4) → ∃ k, k < 5 ∧ nI h + pj_g 1 = nI k) h hh h1 h2
  by_cases e3 : op = 3
  · subst e3
    exact (by decide +kernel : ∀ h, h < 5 → pj_n 3 ≤ h → (pj_g 3 ≤ 0 ∨ h < 4) → ∃ k, k < 5 ∧ nI h + pj_g 3 = nI k) h hh h1 h2
  by_cases e8 : op = 8
  · subst e8
    exact (by decide +kernel : ∀ h, h < 5 → pj_n 8 ≤ h → (pj_g 8 ≤ 0 ∨ h < 4) → ∃ k, k < 5 ∧ nI h + pj_g 8 = nI k) h hh h1 h2
  by_cases e7 : op = 7
  · subst e7
    exact (by decide +kernel : ∀ h, h < 5 → pj_n 7 ≤ h → (pj_g 7 ≤ 0 ∨ h < 4) → ∃ k, k < 5 ∧ nI h + pj_g 7 = nI k) h hh h1 h2
  by_cases e2 : op = 2
  · subst e2
    exact (by decide +kernel : ∀ h, h < 5 → pj_n 2 ≤ h → (pj_g 2 ≤ 0 ∨ h < 4) → ∃ k, k < 5 ∧ nI h + pj_g 2 = nI k) h hh h1 h2
  by_cases e5 : op = 5
  · subst e5
    exact (by decide +kernel : ∀ h, h < 5 → pj_n 5 ≤ h → (pj_g 5 ≤ 0 ∨ h < 4) → ∃ k, k < 5 ∧ nI h + pj_g 5 = nI k) h hh h1 h2
  by_cases e9 : op = 9
  · subst e9
    exact (by decide +kernel : ∀ h, h < 5 → pj_n 9 ≤ h → (pj_g 9 ≤ 0 ∨ h < 4) → ∃ k, k < 5 ∧ nI h + pj_g 9 = nI k) h hh h1 h2
  by_cases e12 : op = 12
  · subst e12
    exact (by decide +kernel : ∀ h, h < 5 → pj_n 12 ≤ h → (pj_g 12 ≤ 0 ∨ h < 4) → ∃ k, k < 5 ∧ nI h + pj_g 12 = nI k) h hh h1 h2
  · refine ⟨h, hh, ?_⟩
    have eg : pj_g op = 0 := by
      unfold pj_g
      rw [if_neg e0, if_neg e1, if_neg e3, if_neg e8, if_neg e7, if_neg e2, if_neg e5, if_neg e9, if_neg e12]
    rw [eg]
    exact Int32.add_zero _
/-- the room for an instruction: a fault, or none and the height behind it fits -/
theorem pj_room {post : Int32 → Prop} (hm : mh ≤ 4) {op y : Int32} {h : Nat} (hh : h < 5) (ey : y = nI h) (H1 : ∀ r, ¬ r = 0 → post r) (H0 : (∃ k, k < 5 ∧ nI h + pj_g op = nI k) → post 0) :
    wpX_roomFault post (mh, po, sz, qh, qc, ju, st, aa, tp, md, ch, fk, a1, a2, a3, a4, a5, a6, a7, a8, a9, a10) op y := by
  subst ey
  unfold wpX_roomFault
  have h3 := pj_n3 op
  refine pj_needs (pk_le (pj_n op) h (fun z => pj_growth ?_) (fun _ => H1 _ (by decide)))
  refine br_c (fun g => H0 (pj_fit op hh z (Or.inl g))) (fun g => br_c (fun l => H0 (pj_fit op hh z (Or.inr ?_))) (fun _ => H1 _ (by decide)))
  rw [Int32.lt_iff_toInt_lt, nI_toInt (by omega)] at l
  rw [Int32.le_iff_toInt_le] at hm
  have e4 : (4 : Int32).toInt = 4 := by decide
  omega
theorem pj_wk {post : Int32 → Prop} (H : ∀ r, post r) (a b c : Int32) : wpX_withKind post () a b c := fun _ _ => H _
theorem pj_cp {post : Int32 → Prop} (H : ∀ r, post r) (a b c : Int32) : wpX_copied post () a b c := by
  unfold wpX_copied wpX_kindAt
  exact pj_wk H _ _ _
theorem pj_sw {post : Int32 → Prop} (H : ∀ r, post r) (a b : Int32) : wpX_swapped post () a b := by
  unfold wpX_swapped wpX_kindAt
  exact pj_wk (fun _ => pj_wk H _ _ _) _ _ _
theorem pj_mg {post : Int32 → Prop} (H : ∀ r, post r) (a b : Int32) : wpX_merged post () a b := by
  unfold wpX_merged
  exact pj_wk (fun _ => pj_wk H _ _ _) _ _ _
theorem pj_dr {post : Int32 → Prop} (H : ∀ r, post r) (a b : Int32) : wpX_dropped post () a b := by
  unfold wpX_dropped
  exact pj_wk (fun _ => pj_wk H _ _ _) _ _ _
theorem pj_kp {post : Int32 → Prop} (H : ∀ r, post r) (a b c : Int32) : wpX_kept post () a b c := by
  unfold wpX_kept wpX_kindAt
  exact pj_wk (fun _ => pj_wk H _ _ _) _ _ _
theorem pj_a106 {post : Int32 → Prop} (H : ∀ r, post r) (a b : Int32) : wX_after_106 post a b := by
  unfold wX_after_106
  exact pj_mg H _ _
theorem pj_after {post : Int32 → Prop} (H : ∀ r, post r) (op a h m : Int32) : wpX_after post () op a h m := by
  unfold wpX_after
  refine br_c (fun _ => H _) (fun _ => br_c (fun _ => H _) (fun _ => ?_))
  refine br_c (fun _ => pj_wk H _ _ _) (fun _ => br_c (fun _ => pj_wk H _ _ _) (fun _ => br_c (fun _ => pj_wk H _ _ _) (fun _ => ?_)))
  refine br_c (fun _ => pj_cp H _ _ _) (fun _ => br_c (fun _ => pj_sw H _ _) (fun _ => br_c (fun _ => pj_a106 H _ _) (fun _ => ?_)))
  refine br_c (fun _ => pj_wk H _ _ _) (fun _ => br_c (fun _ => pj_dr H _ _) (fun _ => br_c (fun _ => pj_cp H _ _ _) (fun _ => ?_)))
  exact br_c (fun _ => pj_kp H _ _ _) (fun _ => br_c (fun _ => H _) (fun _ => br_c (fun _ => H _) (fun _ => br_c (fun _ => pj_a106 H _ _) (fun _ => trivial))))
theorem pj_k156 {post : Int32 → Prop} (H : ∀ r, post r) (x : Int32) : wX_kindFault_156 post x := br_c (fun _ => H _) (fun _ => H _)
theorem pj_k32 {post : Int32 → Prop} (H : ∀ r, post r) (x y z : Int32) : wX_kindFault_32 post x y z := by
  have k58 : ∀ z, wX_kindFault_58 post z := fun z => pj_k156 H z
  have k53 : wX_kindFault_53 post := pj_k156 H 1
  have k79 : ∀ z, wX_kindFault_79 post z := fun z => pj_k156 H z
  have k106 : ∀ z, wX_kindFault_106 post z := fun z => pj_k156 H z
  have k101 : wX_kindFault_101 post := pj_k156 H 1
  have k133 : ∀ z, wX_kindFault_133 post z := fun z => pj_k156 H z
  have k128 : wX_kindFault_128 post := pj_k156 H 1
  have k154 : ∀ z, wX_kindFault_154 post z := fun z => pj_k156 H z
  unfold wX_kindFault_32
  refine br_c (fun _ => br_c (fun _ => br_c (fun _ => k58 _) (fun _ => k53)) (fun _ => k53)) (fun _ => ?_)
  refine br_c (fun _ => br_c (fun _ => k79 _) (fun _ => k79 _)) (fun _ => ?_)
  refine br_c (fun _ => br_c (fun _ => br_c (fun _ => k106 _) (fun _ => k101)) (fun _ => k101)) (fun _ => ?_)
  refine br_c (fun _ => br_c (fun _ => br_c (fun _ => k133 _) (fun _ => k128)) (fun _ => k128)) (fun _ => ?_)
  exact br_c (fun _ => br_c (fun _ => k154 _) (fun _ => k154 _)) (fun _ => pj_k156 H _)
theorem pj_k15 {post : Int32 → Prop} (H : ∀ r, post r) (x y z w : Int32) : wX_kindFault_15 post x y z w := by
  unfold wX_kindFault_15 wpX_kindAt
  exact br_c (fun _ => pj_k32 H _ _ _) (fun _ => pj_k32 H _ _ _)
theorem pj_kf {post : Int32 → Prop} (H : ∀ r, post r) (x y z : Int32) : wpX_kindFault post () x y z := by
  unfold wpX_kindFault wpX_kindAt
  exact br_c (fun _ => pj_k15 H _ _ _ _) (fun _ => pj_k15 H _ _ _ _)
theorem pj_main {post : Int32 → Prop} {p : Nat} (hp : p < 16) {x : Int32} (ex : x = nI p) (H : ∀ r, post r) : wpX_mainNext post (mh, po, sz, qh, qc, ju, st, aa, tp, md, ch, fk, a1, a2, a3, a4, a5, a6, a7, a8, a9, a10) x := by
  subst ex
  unfold wpX_mainNext
  exact ⟨vp_in_nI hp (by omega), nm_e (br_c (fun _ => H _) (fun _ => br_c (fun _ => ⟨vp_in_nI hp (by omega), H _⟩) (fun _ => H _)))⟩
theorem pj_inside {post : Int32 → Prop} {s : Nat} (hs : s ≤ 16) (x : Int32) (h0 : post 0) (h1 : ∀ k, k < s → x = nI k → post 1) : wpX_inside post (mh, po, nI s, qh, qc, ju, st, aa, tp, md, ch, fk, a1, a2, a3, a4, a5, a6, a7, a8, a9, a10) x := by
  unfold wpX_inside
  refine br_c (fun _ => h0) (fun a => br_c (fun _ => h0) (fun b => ?_))
  obtain ⟨j, hj, ej, _⟩ := pk_mu a b (by omega)
  exact h1 j hj ej
end
end
section
section
variable {post : St2 → Prop} {mh po sz qh qc ju st aa tp md ch fk : Int32} {a1 a2 a3 a4 a5 a6 a7 a8 a9 a10 : Nat → Int32}
theorem pj_reach (hq : pj_Q a5) {p h : Nat} (hp : p < 16) (hh : h < 5) {x y : Int32} (ex : x = nI p) (ey : y = nI h) (m : Int32)
    (H : ∀ qc' b3 b4 b5, pj_Q b5 → post (mh, po, sz, qh, qc', ju, st, aa, tp, md, ch, fk, a1, a2, b3, b4, b5, a6, a7, a8, a9, a10)) : wpX_reach post (mh, po, sz, qh, qc, ju, st, aa, tp, md, ch, fk, a1, a2, a3, a4, a5, a6, a7, a8, a9, a10) x y m := by
  subst ex ey
  have hin : vp_in (nI (p * 5 + h)) 80 := vp_in_nI (by omega) (by omega)
  unfold wpX_reach
  refine nm_r (pj_node p h) ⟨hin, nm_e ⟨hin, br_c (fun _ => H _ _ _ _ hq) (fun _ => ⟨hin, nm_e ⟨hin, br_c (fun _ => ⟨hin, nm_e ⟨pk_andIn _ 7 (by decide) (by omega), nm_e (nm_e (H _ _ _ _ ?_))⟩⟩) (fun _ => H _ _ _ _ hq)⟩⟩)⟩⟩
  exact pj_Qu hq _ (by omega) rfl
theorem pj_s74 {s : Nat} (hs : s ≤ 16) (hq : pj_Q a5) {p h : Nat} (hp : p < 16) (hh : h < 5) {x1 x3 x4 x5 : Int32} (e1 : x1 = nI p) (e5 : x5 = nI h)
    (H : ∀ qc' b3 b4 b5, pj_Q b5 → post (mh, po, nI s, qh, qc', ju, st, aa, tp, md, ch, fk, a1, a2, b3, b4, b5, a6, a7, a8, a9, a10)) : wX_spread_74 post x1 x3 x4 x5 mh po (nI s) qh qc ju st aa tp md ch fk a1 a2 a3 a4 a5 a6 a7 a8 a9 a10 := by
  subst e1 e5
  have hin : vp_in (nI p) 16 := vp_in_nI hp (by omega)
  unfold wX_spread_74
  exact br_c (fun _ => ⟨hin, pj_inside hs _ (br_t rfl (H _ _ _ _ hq)) (fun k hk ek => br_f (by decide) ⟨hin, pj_reach hq (by omega) hh ek rfl _ (fun qc' b3 b4 b5 h5 => H qc' b3 b4 b5 h5)⟩)⟩) (fun _ => H _ _ _ _ hq)
theorem pj_spread {s : Nat} (hm : mh ≤ 4) (hs : s ≤ 16) (hq : pj_Q a5) {p h : Nat} (hp : p < 16) (hh : h < 5) {x y : Int32} (ex : x = nI p) (ey : y = nI h)
    (H : ∀ qc' b3 b4 b5, pj_Q b5 → post (mh, po, nI s, qh, qc', ju, st, aa, tp, md, ch, fk, a1, a2, b3, b4, b5, a6, a7, a8, a9, a10)) : wpX_spread post (mh, po, nI s, qh, qc, ju, st, aa, tp, md, ch, fk, a1, a2, a3, a4, a5, a6, a7, a8, a9, a10) x y := by
  subst ex ey
  have hin : vp_in (nI p) 16 := vp_in_nI hp (by omega)
  have hn : vp_in (nI p * 5 + nI h) 80 := by
    rw [pj_node]
    exact vp_in_nI (by omega) (by omega)
  unfold wpX_spread
  refine ⟨hin, fun op eop => pj_room hm hh rfl (fun r hr => br_f hr (H _ _ _ _ hq)) (fun hk => br_t rfl ?_)⟩
  obtain ⟨k, hk, ek⟩ := hk
  refine ⟨hin, hn, pj_after (fun r7 => pj_growth ?_) _ _ _ _⟩
  refine nm_r ek ?_
  refine pj_main hp rfl (fun r10 => ?_)
  refine pj_inside hs _ (br_t rfl ?_) (fun k' hk' e' => br_f (by decide) ?_)
  · exact pj_s74 hs hq hp hk rfl rfl H
  · exact pj_reach hq (by omega) hk e' rfl _ (fun qc' b3 b4 b5 h5 => pj_s74 hs h5 hp hk rfl rfl H)
theorem pj_f91 {post : Int32 → Prop} (H : ∀ r, post r) (x y : Int32) : wX_faultsOf_91 post x y mh po sz qh qc ju st aa tp md ch fk a1 a2 a3 a4 a5 a6 a7 a8 a9 a10 := br_c (fun _ => H _) (fun _ => H _)
theorem pj_f67 {post : Int32 → Prop} {s : Nat} (hs : s ≤ 16) {p : Nat} (hp : p < 16) (H : ∀ r, post r) (x y z : Int32) : wX_faultsOf_67 post (nI p) x y z mh po (nI s) qh qc ju st aa tp md ch fk a1 a2 a3 a4 a5 a6 a7 a8 a9 a10 := by
  unfold wX_faultsOf_67
  exact br_c (fun _ => ⟨vp_in_nI hp (by omega), pj_inside hs _ (br_t rfl (pj_f91 H _ _)) (fun k hk ek => br_f (by decide) (pj_f91 H _ _))⟩) (fun _ => pj_f91 H _ _)
theorem pj_f66 {post : Int32 → Prop} {s : Nat} (hs : s ≤ 16) {p : Nat} (hp : p < 16) (H : ∀ r, post r) (x y : Int32) : wX_faultsOf_66 post (nI p) x y mh po (nI s) qh qc ju st aa tp md ch fk a1 a2 a3 a4 a5 a6 a7 a8 a9 a10 := by
  unfold wX_faultsOf_66
  exact pj_f67 hs hp H _ _ _
theorem pj_faults {post : Int32 → Prop} {s : Nat} (hm : mh ≤ 4) (hs : s ≤ 16) {p h : Nat} (hp : p < 16) (hh : h < 5) {x y : Int32} (ex : x = nI p) (ey : y = nI h) (H : ∀ r, post r) : wpX_faultsOf post (mh, po, nI s, qh, qc, ju, st, aa, tp, md, ch, fk, a1, a2, a3, a4, a5, a6, a7, a8, a9, a10) x y := by
  subst ex ey
  have hn : vp_in (nI p * 5 + nI h) 80 := by
    rw [pj_node]
    exact vp_in_nI (by omega) (by omega)
  unfold wpX_faultsOf
  refine ⟨vp_in_nI hp (by omega), fun op eop => pj_room hm hh rfl (fun r hr => br_f hr (H _)) (fun _ => br_t rfl ⟨hn, ?_⟩)⟩
  refine pj_kf (fun r6 => pj_main hp rfl (fun r7 => br_c (fun _ => pj_f66 hs hp H _ _) (fun _ => pj_inside hs _ (br_t rfl (pj_f67 hs hp H _ _ _)) (fun k hk ek => br_f (by decide) (pj_f66 hs hp H _ _))))) _ _ _
theorem pj_note {s : Nat} (hm : mh ≤ 4) (hs : s ≤ 16) (H : ∀ b6, post (mh, po, nI s, qh, qc, ju, st, aa, tp, md, ch, fk, a1, a2, a3, a4, a5, b6, a7, a8, a9, a10)) : wpX_note post (mh, po, nI s, qh, qc, ju, st, aa, tp, md, ch, fk, a1, a2, a3, a4, a5, a6, a7, a8, a9, a10) := by
  unfold wpX_note
  refine pk_loop (fun n i (b6 : Nat → Int32) => wX_note_2 post mh po (nI s) qh qc ju st aa tp md ch fk n (nI i) a1 a2 a3 a4 a5 b6 a7 a8 a9 a10) (fun _ _ => True) 80 0 a6 (by omega) trivial ?_ ?_
  · intro n b6 _
    exact pk_le 80 80 (fun _ => H b6) (fun z => absurd z (by omega))
  · intro n i b6 hi _ hw
    refine pk_le 80 i (fun z => absurd z (by omega)) (fun _ => ⟨vp_in_nI hi (by omega), br_c (fun _ => nm_r (nI_1 i) (hw _ trivial)) (fun _ => ⟨by decide, nm_r (pj_div hi) ?_⟩)⟩)
    have h16 : vp_in (nI (i / 5)) 16 := vp_in_nI (by omega) (by omega)
    exact ⟨h16, by decide, pj_faults hm hs (p := i / 5) (h := i % 5) (by omega) (by omega) rfl (pj_rem hi) (fun r => ⟨h16, nm_e (nm_r (nI_1 i) (hw _ trivial))⟩)⟩
theorem pj_reset (hd : pj_D a7) (H : ∀ b3 b4 b6 b7, pj_D b7 → post (mh, po, sz, 0, 0, ju, st, aa, tp, md, ch, fk, a1, a2, b3, b4, a5, b6, b7, a8, a9, a10)) : wpX_reset post (mh, po, sz, qh, qc, ju, st, aa, tp, md, ch, fk, a1, a2, a3, a4, a5, a6, a7, a8, a9, a10) := by
  unfold wpX_reset
  have L37 : ∀ b3 b4 b7, pj_D b7 → ∃ n, wX_reset_37 post mh po sz qh qc ju st aa tp md ch fk n 0 a1 a2 b3 b4 a5 a6 b7 a8 a9 a10 := by
    intro b3 b4 b7 h7
    refine pk_loop (fun n i (b6 : Nat → Int32) => wX_reset_37 post mh po sz qh qc ju st aa tp md ch fk n (nI i) a1 a2 b3 b4 a5 b6 b7 a8 a9 a10) (fun _ _ => True) 16 0 a6 (by omega) trivial ?_ ?_
    · intro n b6 _
      exact pk_le 16 16 (fun _ => H b3 b4 b6 b7 h7) (fun z => absurd z (by omega))
    · intro n i b6 hi _ hw
      exact pk_le 16 i (fun z => absurd z (by omega)) (fun _ => ⟨vp_in_nI hi (by omega), nm_e (nm_r (nI_1 i) (hw _ trivial))⟩)
  refine pk_loop (fun n i (b : (Nat → Int32) × (Nat → Int32) × (Nat → Int32)) => wX_reset_2 post mh po sz qh qc ju st aa tp md ch fk n (nI i) a1 a2 b.1 b.2.1 a5 a6 b.2.2 a8 a9 a10) (fun _ b => pj_D b.2.2) 80 0 (a3, a4, a7) (by omega) hd ?_ ?_
  · intro n b hb
    exact pk_le 80 80 (fun _ => L37 _ _ _ hb) (fun z => absurd z (by omega))
  · intro n i b hi hb hw
    have hin : vp_in (nI i) 80 := vp_in_nI hi (by omega)
    exact pk_le 80 i (fun z => absurd z (by omega)) (fun _ => ⟨hin, nm_e ⟨hin, nm_e ⟨hin, nm_e (nm_r (nI_1 i) (hw (_, _, _) (pj_Du hb _)))⟩⟩⟩)
theorem pj_visit {s : Nat} (hs : s ≤ 16) (hq : pj_Q a5) {h : Nat} (hh : h < 5) {y : Int32} (ey : y = nI h) (x z : Int32) (h7 : a7 0 = 0)
    (H : ∀ qc' b5 b7, pj_Q b5 → b7 0 = 0 → post (mh, po, nI s, qh, qc', ju, st, aa, tp, md, ch, fk, a1, a2, a3, a4, b5, a6, b7, a8, a9, a10)) : wpX_visit post (mh, po, nI s, qh, qc, ju, st, aa, tp, md, ch, fk, a1, a2, a3, a4, a5, a6, a7, a8, a9, a10) x y z := by
  subst ey
  unfold wpX_visit
  refine pj_inside hs _ (br_t rfl (H _ _ _ hq h7)) (fun k hk ek => br_f (by decide) ?_)
  subst ek
  have hin : vp_in (nI (k * 5 + h)) 80 := vp_in_nI (by omega) (by omega)
  refine nm_r (pj_node k h) ⟨hin, br_c (fun _ => H _ _ _ hq h7) (fun hn => ⟨hin, nm_e ⟨pk_andIn _ 7 (by decide) (by omega), nm_e (nm_e (H _ _ _ (pj_Qu hq _ (by omega) rfl) ?_))⟩⟩)⟩
  rw [nI_clamp (by omega)] at hn ⊢
  have hne : 0 ≠ k * 5 + h := by
    intro e
    rw [← e, h7] at hn
    exact hn (by decide)
  rw [pk_un hne]
  exact h7
theorem pj_visit0 {s : Nat} (hs : s ≤ 16) (h0 : 0 < s) (hq : pj_Q a5) (hd : pj_D a7)
    (H : ∀ qc' b5 b7, pj_Q b5 → b7 0 = 0 → post (mh, po, nI s, qh, qc', ju, st, aa, tp, md, ch, fk, a1, a2, a3, a4, b5, a6, b7, a8, a9, a10)) : wpX_visit post (mh, po, nI s, qh, qc, ju, st, aa, tp, md, ch, fk, a1, a2, a3, a4, a5, a6, a7, a8, a9, a10) 0 0 0 := by
  unfold wpX_visit wpX_inside
  have hin : vp_in (nI 0) 80 := vp_in_nI (by omega) (by omega)
  refine br_f (by decide) (br_f (nI_nle h0 (by omega)) (br_f (by decide) (nm_r (pj_node 0 0) ⟨hin, br_c (fun h => ?_) (fun _ => ⟨hin, nm_e ⟨pk_andIn _ 7 (by decide) (by omega), nm_e (nm_e (H _ _ _ (pj_Qu hq _ (k := 0) (by omega) rfl) ?_))⟩⟩)⟩)))
  · rw [nI_clamp (by omega)] at h
    refine H _ _ _ hq (Or.elim hd id (fun g => absurd g ?_))
    rw [Int32.lt_iff_toInt_lt]
    have h' := Int32.le_iff_toInt_le.mp h
    exact Int.not_lt.mpr h'
  · rw [nI_clamp (by omega), pk_us]
    decide
theorem pj_m144 {s : Nat} {J : Int32 → Int32 → Int32 → Int32 → Int32 → Int32 → Int32 → Int32 → Int32 → Int32 → Int32 → Int32 → Int32 → (Nat → Int32) → (Nat → Int32) → (Nat → Int32) → (Nat → Int32) → (Nat → Int32) → (Nat → Int32) → (Nat → Int32) → (Nat → Int32) → (Nat → Int32) → (Nat → Int32) → Prop}
    (hs : s ≤ 16) (hq : pj_Q a5) {h : Nat} (hh : h < 5) (h7 : a7 0 = 0) (i : Nat) (x z : Int32) (H : ∀ qc' b5 b7, pj_Q b5 → b7 0 = 0 → J (nI (i + 1)) mh po (nI s) qh qc' ju st aa tp md ch fk a1 a2 a3 a4 b5 a6 b7 a8 a9 a10) :
    wX_measure_144 post J (nI i) (nI h) z x mh po (nI s) qh qc ju st aa tp md ch fk a1 a2 a3 a4 a5 a6 a7 a8 a9 a10 := by
  unfold wX_measure_144
  exact pj_visit hs hq hh rfl _ _ h7 (fun qc' b5 b7 h5 h7 => nm_r (nI_1 i) (H qc' b5 b7 h5 h7))
theorem pj_m19 {s : Nat} (hm : mh ≤ 4) (hs : s ≤ 16) (H : ∀ qh' qc' b5 b7, pj_Q b5 → b7 0 = 0 → post (mh, po, nI s, qh', qc', ju, st, aa, tp, md, ch, fk, a1, a2, a3, a4, b5, a6, b7, a8, a9, a10)) :
    ∀ n i, i ≤ 80 → 80 < n + i → ∀ qc' b5 b7, pj_Q b5 → b7 0 = 0 → wX_measure_19 post n (nI i) mh po (nI s) (nI i) qc' ju st aa tp md ch fk a1 a2 a3 a4 b5 a6 b7 a8 a9 a10 := by
  intro n
  induction n with
  | zero => intro i h1 h2; omega
  | succ n ih =>
    intro i h1 h2 qc' b5 b7 hq h7
    refine pk_le 80 i (fun _ => H _ _ _ _ hq h7) (fun hi => br_c (fun _ => H _ _ _ _ hq h7) (fun _ => ?_))
    obtain ⟨k, hk, ek⟩ := hq (nI i).toNatClampNeg
    have h16 : vp_in (nI (k / 5)) 16 := vp_in_nI (by omega) (by omega)
    refine ⟨vp_in_nI (by omega) (by omega), nm_r ek (nm_r (nI_1 i) (nm_e ⟨by decide, nm_r (pj_div hk) ⟨h16, fun op eop => ⟨by decide, nm_r (pj_rem hk) ?_⟩⟩⟩))⟩
    refine pj_room hm (h := k % 5) (by omega) rfl (fun r hr => br_f hr (nm_r (nI_1 i) (ih (i + 1) (by omega) (by omega) _ _ _ hq h7))) (fun hg => br_t rfl ?_)
    obtain ⟨g, hg, eg⟩ := hg
    refine pj_growth ?_
    refine nm_r eg ⟨vp_in_nI hk (by omega), nm_e ?_⟩
    refine pj_main (p := k / 5) (by omega) rfl (fun r63 => ?_)
    refine pj_visit hs hq hg rfl _ _ h7 (fun qc' b5 b7 hq h7 => ?_)
    exact br_c (fun _ => ⟨h16, pj_m144 hs hq hg h7 i _ _ (fun qc' b5 b7 hq h7 => ih (i + 1) (by omega) (by omega) _ _ _ hq h7)⟩) (fun _ => pj_m144 hs hq hg h7 i _ _ (fun qc' b5 b7 hq h7 => ih (i + 1) (by omega) (by omega) _ _ _ hq h7))
theorem pj_measure {s : Nat} (hm : mh ≤ 4) (hs : s ≤ 16) (h0 : 0 < s) (hq : pj_Q a5) (hd : pj_D a7)
    (H : ∀ qh' qc' b5 b7, pj_Q b5 → b7 0 = 0 → post (mh, po, nI s, qh', qc', ju, st, aa, tp, md, ch, fk, a1, a2, a3, a4, b5, a6, b7, a8, a9, a10)) : wpX_measure post (mh, po, nI s, qh, qc, ju, st, aa, tp, md, ch, fk, a1, a2, a3, a4, a5, a6, a7, a8, a9, a10) := by
  unfold wpX_measure
  exact pj_visit0 hs h0 hq hd (fun qc' b5 b7 hq h7 => ⟨81, pj_m19 hm hs H 81 0 (by omega) (by omega) _ _ _ hq h7⟩)
theorem pj_j122 {s : Nat} (hm : mh ≤ 4) (hs : s ≤ 16) (h0 : 0 < s) (hq : pj_Q a5) (hd : pj_D a7)
    (H : ∀ qh' qc' b3 b4 b5 b6 b7, pj_Q b5 → b7 0 = 0 → post (mh, po, nI s, qh', qc', ju, st, aa, tp, md, ch, fk, a1, a2, b3, b4, b5, b6, b7, a8, a9, a10)) : wX_judge_122 post mh po (nI s) qh qc ju st aa tp md ch fk a1 a2 a3 a4 a5 a6 a7 a8 a9 a10 := by
  unfold wX_judge_122
  exact pj_note hm hs (fun b6 => pj_measure hm hs h0 hq hd (fun qh' qc' b5 b7 hq h7 => H _ _ _ _ _ _ _ hq h7))
theorem pj_j48 {s : Nat} (hm : mh ≤ 4) (hs : s ≤ 16) (h0 : 0 < s) (hd : pj_D a7)
    (H : ∀ qh' qc' b3 b4 b5 b6 b7, pj_Q b5 → b7 0 = 0 → post (mh, po, nI s, qh', qc', ju, st, aa, tp, md, ch, fk, a1, a2, b3, b4, b5, b6, b7, a8, a9, a10)) :
    ∀ n i, i ≤ 1600 → 1600 < n + i → ∀ qh' qc' b3 b4 b5, vp_in qh' 128 → pj_Q b5 → wX_judge_48 post n (nI i) mh po (nI s) qh' qc' ju st aa tp md ch fk a1 a2 b3 b4 b5 a6 a7 a8 a9 a10 := by
  intro n
  induction n with
  | zero => intro i h1 h2; omega
  | succ n ih =>
    intro i h1 h2 qh' qc' b3 b4 b5 hh hq
    refine pk_le 1600 i (fun _ => pj_j122 hm hs h0 hq hd H) (fun hi => br_c (fun _ => pj_j122 hm hs h0 hq hd H) (fun _ => ?_))
    obtain ⟨k, hk, ek⟩ := hq qh'.toNatClampNeg
    refine ⟨hh, nm_r ek (nm_e (nm_e ⟨vp_in_nI hk (by omega), nm_e ⟨by decide, by decide, ?_⟩⟩))⟩
    exact pj_spread hm hs hq (p := k / 5) (h := k % 5) (by omega) (by omega) (pj_div hk) (pj_rem hk) (fun qc' b3 b4 b5 hq => nm_r (nI_1 i) (ih (i + 1) (by omega) (by omega) _ _ _ _ _ (pk_andIn _ 7 (by decide) (by omega)) hq))
theorem pj_judge {s : Nat} (hm : mh ≤ 4) (hs : s ≤ 16) (h0 : 0 < s) (hq : pj_Q a5) (hd : pj_D a7)
    (H : ∀ qh' qc' b3 b4 b5 b6 b7, pj_Q b5 → b7 0 = 0 → post (mh, po, nI s, qh', qc', 1, st, aa, tp, md, ch, fk, a1, a2, b3, b4, b5, b6, b7, a8, a9, a10)) : wpX_judge post (mh, po, nI s, qh, qc, 0, st, aa, tp, md, ch, fk, a1, a2, a3, a4, a5, a6, a7, a8, a9, a10) := by
  unfold wpX_judge
  refine br_t rfl (pj_reset hd (fun b3 b4 b6 b7 hd => br_f (nI_ne0 h0 (by omega)) (pj_wk (fun r46 => pj_wk (fun r47 => ?_) _ _ _) _ _ _)))
  exact pj_reach hq (p := 0) (h := 0) (by omega) (by omega) rfl rfl _ (fun qc' b3 b4 b5 hq => ⟨1601, pj_j48 hm hs h0 hd H 1601 0 (by omega) (by omega) _ _ _ _ _ (pk_in 0 128 (by omega)) hq⟩)
end
end
section
section
variable {post : Int32 → St2 → Prop} {mh po sz qh qc ju st aa tp md ch fk : Int32} {a1 a2 a3 a4 a5 a6 a7 a8 a9 a10 : Nat → Int32}
theorem pj_d18 (h7 : a7 0 = 0) (H : post 0 (mh, po, sz, qh, qc, ju, st, aa, tp, md, ch, fk, a1, a2, a3, a4, a5, a6, a7, a8, a9, a10)) : ∃ n, wX_distance_18 post 0 mh po sz qh qc ju st aa tp md ch fk a1 a2 a3 a4 a5 a6 a7 a8 a9 a10 n (-1) 0 := by
  refine pk_loop (fun n i (x2 : Int32) => wX_distance_18 post 0 mh po sz qh qc ju st aa tp md ch fk a1 a2 a3 a4 a5 a6 a7 a8 a9 a10 n x2 (nI i)) (fun i x2 => (i = 0 ∧ x2 = -1) ∨ (0 < i ∧ x2 = 0)) 5 0 (-1) (by omega) (Or.inl ⟨rfl, rfl⟩) ?_ ?_
  · intro n x hx
    have e : x = 0 := Or.elim hx (fun g => absurd g.1 (by omega)) (fun g => g.2)
    subst e
    exact pk_le 5 5 (fun _ => H) (fun z => absurd z (by omega))
  · intro n i x hi hx hw
    have en : (0 : Int32) * 5 + nI i = nI i := by
      have e := pj_node 0 i
      rw [Nat.zero_mul, Nat.zero_add] at e
      exact e
    have hin : vp_in ((0 : Int32) * 5 + nI i) 80 := by
      rw [en]
      exact vp_in_nI (by omega) (by omega)
    have hw0 := hw 0 (Or.inr ⟨by omega, rfl⟩)
    refine pk_le 5 i (fun z => absurd z (by omega)) (fun _ => ⟨hin, fun x4 e4 => ?_⟩)
    rw [en, nI_clamp (by omega)] at e4
    rcases hx with ⟨e, ex⟩ | ⟨e, ex⟩
    · subst e ex
      rw [h7] at e4
      subst e4
      exact br_f (by decide) (br_t (by decide) (nm_r (nI_1 0) hw0))
    · subst ex
      exact br_c (fun _ => nm_r (nI_1 i) hw0) (fun hn => br_f (by decide) (br_c (fun _ => nm_r (nI_1 i) hw0) (fun hl => absurd (Int32.not_lt.mp hn) hl)))
theorem pj_dist0 {s : Nat} (hs : s ≤ 16) (x : Int32) (ho : ∀ k, k < s → ¬ x = nI k) (H : post (-1) (mh, po, nI s, qh, qc, ju, st, aa, tp, md, ch, fk, a1, a2, a3, a4, a5, a6, a7, a8, a9, a10)) : wpX_distance post (mh, po, nI s, qh, qc, ju, st, aa, tp, md, ch, fk, a1, a2, a3, a4, a5, a6, a7, a8, a9, a10) x := by
  unfold wpX_distance
  exact pj_inside hs _ (br_t rfl H) (fun k hk ek => absurd ek (ho k hk))
theorem pj_dist1 {s : Nat} (hm : mh ≤ 4) (hs : s ≤ 16) (h0 : 0 < s) (hq : pj_Q a5) (hd : pj_D a7)
    (H : ∀ qh' qc' b3 b4 b5 b6 b7, post 0 (mh, po, nI s, qh', qc', 1, st, aa, tp, md, ch, fk, a1, a2, b3, b4, b5, b6, b7, a8, a9, a10)) : wpX_distance post (mh, po, nI s, qh, qc, 0, st, aa, tp, md, ch, fk, a1, a2, a3, a4, a5, a6, a7, a8, a9, a10) 0 := by
  unfold wpX_distance wpX_inside
  exact br_f (by decide) (br_f (nI_nle h0 (by omega)) (br_f (by decide) (pj_judge hm hs h0 hq hd (fun qh' qc' b3 b4 b5 b6 b7 _ h7 => pj_d18 h7 (H _ _ _ _ _ _ _)))))
/-- what a local's number answers -/
def pj_fl (arg : Int32) : Int32 := if arg = 0 then 0 else if arg = 1 then 0 else -3
/-- an instruction's fault: 0, -2 or -3 -/
def pj_fo (op arg : Int32) : Int32 := if op < 0 then -2 else if op ≤ 13 then (if op = 8 then pj_fl arg else if op = 9 then pj_fl arg else 0) else -2
theorem pj_f25 {post : Int32 → Prop} {x : Int32} (h : post (pj_fl x)) : wX_faultOf_25 post x := by
  unfold wX_faultOf_25 wX_faultOf_30
  unfold pj_fl at h
  refine br_f (by decide) (br_c (fun a => ?_) (fun a => br_c (fun b => ?_) (fun b => ?_)))
  · rw [if_neg, if_neg] at h
    · exact h
    · intro e
      rw [e] at a
      exact absurd a (by decide)
    · intro e
      rw [e] at a
      exact absurd a (by decide)
  · obtain ⟨j, hj, ej⟩ := nI_of2 (M := 1) (n := 1) (by decide) a b
    subst ej
    rcases Nat.eq_zero_or_pos j with e | e
    · subst e
      exact h
    · have e1 : j = 1 := by omega
      subst e1
      exact h
  · rw [if_neg, if_neg] at h
    · exact h
    · intro e
      rw [e] at b
      exact absurd b (by decide)
    · intro e
      rw [e] at b
      exact absurd b (by decide)
theorem pj_faultOf {post : Int32 → Prop} {op arg : Int32} (h : post (pj_fo op arg)) : wpX_faultOf post () op arg := by
  unfold wpX_faultOf
  unfold pj_fo at h
  refine br_c (fun a => by rw [if_pos a] at h; exact h) (fun a => ?_)
  rw [if_neg a] at h
  refine br_c (fun b => ?_) (fun b => by rw [if_neg b] at h; exact h)
  rw [if_pos b] at h
  refine br_c (fun c => by rw [if_pos c] at h; exact pj_f25 h) (fun c => ?_)
  rw [if_neg c] at h
  refine br_c (fun d => by rw [if_pos d] at h; exact pj_f25 h) (fun d => ?_)
  rw [if_neg d] at h
  exact br_t rfl h
theorem pj_emit (op arg : Int32) (H1 : ¬ pj_fo op arg = 0 → post (pj_fo op arg) (mh, po, 0, qh, qc, ju, st, aa, tp, md, ch, fk, a1, a2, a3, a4, a5, a6, a7, a8, a9, a10)) (H0 : pj_fo op arg = 0 → ∀ r b1 b2, r = 0 → post r (mh, po, 1, qh, qc, 0, 0, 0, 0, 0, ch, fk, b1, b2, a3, a4, a5, a6, a7, a8, a9, a10)) :
    wpX_emit post (mh, po, 0, qh, qc, ju, st, aa, tp, md, ch, fk, a1, a2, a3, a4, a5, a6, a7, a8, a9, a10) op arg := by
  unfold wpX_emit
  exact br_t (by decide) (pj_faultOf (br_c (fun e => ⟨pk_in 0 16 (by omega), nm_e ⟨pk_in 0 16 (by omega), nm_e (nm_r (show (0 : Int32) + 1 = 1 by decide) (H0 e _ _ _ (by decide)))⟩⟩) (fun e => H1 e)))
theorem pj_patch0 (p op arg : Int32) (H : post (-1) (mh, po, 0, qh, qc, ju, st, aa, tp, md, ch, fk, a1, a2, a3, a4, a5, a6, a7, a8, a9, a10)) : wpX_patch post (mh, po, 0, qh, qc, ju, st, aa, tp, md, ch, fk, a1, a2, a3, a4, a5, a6, a7, a8, a9, a10) p op arg := by
  unfold wpX_patch
  exact br_c (fun _ => H) (fun a => br_f a H)
theorem pj_patch1 (p op arg : Int32) (Ho : (p < 0 ∨ ¬ p < 1) → post (-1) (mh, po, 1, qh, qc, ju, st, aa, tp, md, ch, fk, a1, a2, a3, a4, a5, a6, a7, a8, a9, a10)) (H1 : p = 0 → ¬ pj_fo op arg = 0 → post (pj_fo op arg) (mh, po, 1, qh, qc, ju, st, aa, tp, md, ch, fk, a1, a2, a3, a4, a5, a6, a7, a8, a9, a10))
    (H0 : p = 0 → pj_fo op arg = 0 → ∀ b1 b2, post 0 (mh, po, 1, qh, qc, 0, 0, 0, 0, 0, ch, fk, b1, b2, a3, a4, a5, a6, a7, a8, a9, a10)) : wpX_patch post (mh, po, 1, qh, qc, ju, st, aa, tp, md, ch, fk, a1, a2, a3, a4, a5, a6, a7, a8, a9, a10) p op arg := by
  unfold wpX_patch
  refine br_c (fun a => Ho (Or.inl a)) (fun a => br_c (fun b => ?_) (fun b => Ho (Or.inr b)))
  obtain ⟨j, hj, ej⟩ := nI_of a
  have hb : nI j < nI 1 := by
    rw [← ej]
    exact b
  rw [nI_ltI hj (by omega)] at hb
  have e0 : j = 0 := by omega
  subst e0
  have ep : p = 0 := ej
  subst ep
  exact pj_faultOf (br_c (fun e => ⟨pk_in 0 16 (by omega), nm_e ⟨pk_in 0 16 (by omega), nm_e (H0 rfl e _ _)⟩⟩) (fun e => H1 rfl e))
theorem pj_len {post : Int32 → Prop} (H : post sz) : wpX_length post (mh, po, sz, qh, qc, ju, st, aa, tp, md, ch, fk, a1, a2, a3, a4, a5, a6, a7, a8, a9, a10) := H
theorem pj_stat {post : Int32 → Prop} (H : post st) : wpX_status post (mh, po, sz, qh, qc, ju, st, aa, tp, md, ch, fk, a1, a2, a3, a4, a5, a6, a7, a8, a9, a10) := H
theorem pj_init {post : St2 → Prop} (p0 p1 : Int32) (H : ∀ mh po, mh ≤ 4 → post (mh, po, 0, 0, 0, 0, 0, 0, 0, 0, 0, 0, (fun _ => 0), (fun _ => 0), (fun _ => 0), (fun _ => 0), (fun _ => 0), (fun _ => 0), (fun _ => 0), (fun _ => 0), (fun _ => 0), (fun _ => 0))) :
    wpX_init post 10 430 (0, 0, 0, 0, 0, 0, 0, 0, 0, 0, 0, 0) p0 p1 := by
  have h103 : ∀ z, z ≤ 4 → wX_init_103 post 10 430 p1 z 10 430 0 0 0 0 0 0 0 0 0 0 0 0 (fun _ => 0) (fun _ => 0) (fun _ => 0) (fun _ => 0) (fun _ => 0) (fun _ => 0) (fun _ => 0) (fun _ => 0) (fun _ => 0) (fun _ => 0) :=
    fun z hz => br_c (fun _ => br_c (fun _ => H _ _ hz) (fun _ => H _ _ hz)) (fun _ => H _ _ hz)
  unfold wpX_init
  refine ⟨by omega, by omega, by omega, by omega, by omega, by omega, by omega, by omega, by omega, by omega, by omega, by omega, by omega, by omega, by omega, by omega, by omega, by omega, by omega, by omega, ?_⟩
  exact br_c (fun _ => br_c (fun b => h103 _ b) (fun _ => h103 _ (by decide))) (fun _ => h103 _ (by decide))
end
section
variable {post : Int32 → St0 → Prop} {mc ms kc ks : Nat} {x3 x4 x5 x8 x9 x10 x11 x12 x13 x14 x15 z0 : Int32}
theorem pj_203 (H : post 1 ()) (h8 : x8 = x13) (h9 : x9 = x14) (h10 : x10 = x15) (h11 : x11 = z0) (h12 : x12 = 0) : wL_lawOf_203 post mc ms 2 x8 x9 x10 x11 x12 x13 x14 x15 z0 kc ks :=
  br_t rfl (br_t h8 (br_t h9 (br_t h10 (br_t h11 (br_t h12 H)))))
/-- outside: the distance is -1 -/
theorem pj_187n (H : post 1 ()) (h8 : x8 = x13) (h9 : x9 = x14) (h10 : x10 = x15) (h11 : x11 = -1) (h12 : x12 = 0) (hn : x14 = 1 → ¬ x4 = 0) : wL_lawOf_187 post mc ms x4 2 x8 x9 x10 x11 x12 x13 x14 x15 kc ks := by
  have h : wL_lawOf_202 post mc ms 2 x8 x9 x10 x11 x12 x13 x14 x15 kc ks := by
    unfold wL_lawOf_202
    exact pj_203 H h8 h9 h10 h11 h12
  unfold wL_lawOf_187
  exact br_c (fun e => br_f (hn e) h) (fun _ => h)
/-- inside: the distance is 0 -/
theorem pj_187i (H : post 1 ()) (h8 : x8 = x13) (h9 : x9 = 1) (h10 : x10 = x15) (h11 : x11 = 0) (h12 : x12 = 0) : wL_lawOf_187 post mc ms 0 2 x8 x9 x10 x11 x12 x13 1 x15 kc ks := by
  unfold wL_lawOf_187
  exact br_t rfl (br_t rfl (pj_203 H h8 h9 h10 h11 h12))
theorem pj_174 (H : post 1 ()) (h8 : x8 = x13) (h9 : x9 = 1) (h10 : x10 = pj_fl x3) (h11 : x11 = 0) (h12 : x12 = 0) : wL_lawOf_174 post mc ms x3 0 2 x8 x9 x10 x11 x12 x13 1 0 kc ks := by
  unfold wL_lawOf_174
  unfold pj_fl at h10
  refine br_c (fun a => by rw [if_pos a] at h10; exact pj_187i H h8 h9 h10 h11 h12) (fun a => ?_)
  rw [if_neg a] at h10
  refine br_c (fun a => by rw [if_pos a] at h10; exact pj_187i H h8 h9 h10 h11 h12) (fun a => ?_)
  rw [if_neg a] at h10
  exact pj_187i H h8 h9 h10 h11 h12
theorem pj_117i (H : post 1 ()) (h8 : x8 = x13) (h9 : x9 = 1) (h10 : x10 = pj_fo x5 x3) (h11 : x11 = 0) (h12 : x12 = 0) : wL_lawOf_117 post mc ms x3 0 x5 2 x8 x9 x10 x11 x12 x13 1 kc ks := by
  unfold wL_lawOf_117 wL_lawOf_153
  unfold pj_fo at h10
  refine br_f (by decide) (br_t (by decide) (br_c (fun a => ?_) (fun a => ?_)))
  · rw [if_pos a] at h10
    exact pj_187i H h8 h9 h10 h11 h12
  rw [if_neg a] at h10
  refine br_c (fun b => ?_) (fun b => ?_)
  rotate_left
  · rw [if_neg b] at h10
    exact pj_187i H h8 h9 h10 h11 h12
  rw [if_pos b] at h10
  refine br_c (fun c => by rw [if_pos c] at h10; exact pj_174 H h8 h9 h10 h11 h12) (fun c => ?_)
  rw [if_neg c] at h10
  refine br_c (fun d => by rw [if_pos d] at h10; exact pj_174 H h8 h9 h10 h11 h12) (fun d => ?_)
  rw [if_neg d] at h10
  exact pj_187i H h8 h9 h10 h11 h12
theorem pj_117n (H : post 1 ()) (h8 : x8 = x13) (h9 : x9 = z0) (h10 : x10 = -1) (h11 : x11 = -1) (h12 : x12 = 0) (ho : x4 < 0 ∨ ¬ x4 < z0) (hn : z0 = 1 → ¬ x4 = 0) : wL_lawOf_117 post mc ms x3 x4 x5 2 x8 x9 x10 x11 x12 x13 z0 kc ks := by
  have h : wL_lawOf_135 post mc ms x4 2 x8 x9 x10 x11 x12 x13 z0 kc ks := by
    unfold wL_lawOf_135
    exact pj_187n H h8 h9 h10 h11 h12 hn
  unfold wL_lawOf_117
  exact br_c (fun _ => h) (fun a => br_f (Or.elim ho (fun z => absurd z a) id) h)
/-- an instruction that was refused -/
theorem pj_107a (H : post 1 ()) (hx : ¬ x13 = 0) (h8 : x8 = x13) (h9 : x9 = 0) (h10 : x10 = -1) (h11 : x11 = -1) (h12 : x12 = 0) : wL_lawOf_107 post mc ms x3 x4 x5 2 x8 x9 x10 x11 x12 x13 kc ks := by
  unfold wL_lawOf_107
  refine br_f hx (pj_117n H h8 h9 h10 h11 h12 ?_ (fun z => absurd z (by decide)))
  exact Decidable.em (x4 < 0)
/-- an instruction that was taken, and a place outside -/
theorem pj_107n (H : post 1 ()) (hx : x13 = 0) (h8 : x8 = 0) (h9 : x9 = 1) (h10 : x10 = -1) (h11 : x11 = -1) (h12 : x12 = 0) (ho : x4 < 0 ∨ ¬ x4 < 1) : wL_lawOf_107 post mc ms x3 x4 x5 2 x8 x9 x10 x11 x12 x13 kc ks := by
  unfold wL_lawOf_107
  refine br_t hx (pj_117n H (h8.trans hx.symm) h9 h10 h11 h12 ho (fun _ e => ?_))
  subst e
  exact absurd ho (by decide)
/-- an instruction that was taken, and its own place -/
theorem pj_107i (H : post 1 ()) (hx : x13 = 0) (h8 : x8 = 0) (h9 : x9 = 1) (h10 : x10 = pj_fo x5 x3) (h11 : x11 = 0) (h12 : x12 = 0) : wL_lawOf_107 post mc ms x3 0 x5 2 x8 x9 x10 x11 x12 x13 kc ks := by
  unfold wL_lawOf_107
  exact br_t hx (pj_117i H (h8.trans hx.symm) h9 h10 h11 h12)
theorem pj_94 {x7 : Int32} (h : wL_lawOf_107 post mc ms x3 x4 x5 x7 x8 x9 x10 x11 x12 (pj_fl x3) kc ks) : wL_lawOf_94 post mc ms x3 x4 x5 x7 x8 x9 x10 x11 x12 0 kc ks := by
  unfold wL_lawOf_94
  unfold pj_fl at h
  refine br_c (fun a => by rw [if_pos a] at h; exact h) (fun a => ?_)
  rw [if_neg a] at h
  refine br_c (fun a => by rw [if_pos a] at h; exact h) (fun a => ?_)
  rw [if_neg a] at h
  exact h
theorem pj_due {x2 x7 : Int32} (h : wL_lawOf_107 post mc ms x3 x4 x5 x7 x8 x9 x10 x11 x12 (pj_fo x2 x3) kc ks) :
    (x2 < 0 → wL_lawOf_75 post mc ms x3 x4 x5 x7 x8 x9 x10 x11 x12 kc ks) ∧ (¬ x2 < 0 → ((x2 ≤ 13 → ((x2 = 8 → wL_lawOf_94 post mc ms x3 x4 x5 x7 x8 x9 x10 x11 x12 0 kc ks) ∧ (¬ x2 = 8 → ((x2 = 9 → wL_lawOf_94 post mc ms x3 x4 x5 x7 x8 x9 x10 x11 x12 0 kc ks) ∧ (¬ x2 = 9 → wL_lawOf_107 post mc ms x3 x4 x5 x7 x8 x9 x10 x11 x12 0 kc ks))))) ∧ (¬ x2 ≤ 13 → wL_lawOf_75 post mc ms x3 x4 x5 x7 x8 x9 x10 x11 x12 kc ks))) := by
  unfold wL_lawOf_75
  unfold pj_fo at h
  refine br_c (fun a => by rw [if_pos a] at h; exact h) (fun a => ?_)
  rw [if_neg a] at h
  refine br_c (fun b => ?_) (fun b => by rw [if_neg b] at h; exact h)
  rw [if_pos b] at h
  refine br_c (fun c => by rw [if_pos c] at h; exact pj_94 h) (fun c => ?_)
  rw [if_neg c] at h
  refine br_c (fun d => by rw [if_pos d] at h; exact pj_94 h) (fun d => ?_)
  rw [if_neg d] at h
  exact h
end
end
section
theorem pj_lawOf {post : Int32 → St0 → Prop} (H : post 1 ()) (p0 p1 p2 p3 p4 p5 : Int32) : wpL_lawOf post 11 452 () p0 p1 p2 p3 p4 p5 := by
  unfold wpL_lawOf
  refine ⟨by omega, by omega, 10, 430, by omega, by omega, pj_init p0 p1 (fun mh po hm => br_t rfl (pj_emit p2 p3 (fun hf => pj_len ?_) (fun hf r b1 b2 hr => pj_len ?_)))⟩
  · exact pj_patch0 _ _ _ (pj_dist0 (s := 0) (by omega) _ (fun k hk => absurd hk (by omega)) (pj_stat (pj_due (pj_107a H hf rfl rfl rfl rfl rfl))))
  · refine pj_patch1 _ _ _ (fun ho => ?_) (fun ep hf2 => ?_) (fun ep hf2 c1 c2 => ?_)
    · refine pj_dist0 (s := 1) (by omega) _ (fun k hk ek => ?_) (pj_stat (pj_due (pj_107n H hf hr rfl rfl rfl rfl ho)))
      have e0 : k = 0 := by omega
      subst e0
      have e1 : p4 = 0 := ek
      subst e1
      exact absurd ho (by decide)
    · subst ep
      exact pj_dist1 (s := 1) hm (by omega) (by omega) pj_Q0 (Or.inl rfl) (fun _ _ _ _ _ _ _ => pj_stat (pj_due (pj_107i H hf hr rfl rfl rfl rfl)))
    · subst ep
      exact pj_dist1 (s := 1) hm (by omega) (by omega) pj_Q0 (Or.inl rfl) (fun _ _ _ _ _ _ _ => pj_stat (pj_due (pj_107i H hf hr rfl hf2.symm rfl rfl)))
theorem pj_cell {post : Int32 → Prop} {L : Nat} {xs : Nat → Int32} (hL : L ≤ 6) (k : Nat) (hk : k < 6) {x : Int32} (ex : x = nI k) (H : ∀ r, post r) : wpL_cellAt post L xs () x := by
  subst ex
  unfold wpL_cellAt
  exact pk_le L k (fun _ => H _) (fun z => ⟨pk_in k L z, H _⟩)
theorem i_vc (xs : Nat → Int32) (L : Nat) (hL : L ≤ 6) : wpL_law (fun r => r = 1) L xs := by
  unfold wpL_law
  refine pj_cell hL 0 (by omega) rfl (fun r1 => pj_cell hL 1 (by omega) rfl (fun r2 => pj_cell hL 2 (by omega) rfl (fun r3 => pj_cell hL 3 (by omega) rfl (fun r4 => pj_cell hL 4 (by omega) rfl (fun r5 => pj_cell hL 5 (by omega) rfl (fun r6 => ?_))))))
  exact ⟨11, 452, by omega, by omega, pj_lawOf rfl _ _ _ _ _ _⟩
end
