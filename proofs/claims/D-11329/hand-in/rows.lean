section
/-- what an operation of the sheet computes -/
def wi_f (op x y : Int32) : Int32 := if op = 2 then x + y else if op = 3 then x - y else if op = 4 then x * y else if op = 5 then (if y ≤ x then y else x) else (if x ≤ y then y else x)
def wi_Op (op : Int32) : Prop := op = 2 ∨ op = 3 ∨ op = 4 ∨ op = 5 ∨ op = 6
/-- the order behind the formula -/
def wi_so (i : Nat) : Nat := if i < 12 then i + 1 else if i = 12 then 0 else i
/-- the names behind the formula -/
def wi_nm (j : Nat) : Int32 := if j = 0 then 4104 else 0
def wi_pl : Nat → Int32
  | 0 => 0
  | i + 1 => wi_pl i ||| ((1 : Int32) <<< (nI (wi_so i) &&& 31))
theorem wi_so_lt {i : Nat} (h : i < 16) : wi_so i < 16 := by
  unfold wi_so
  split
  · omega
  · split <;> omega
theorem wi_fill {f : Nat → Int32} {s : Nat → Int32} {i : Nat} (h : ∀ j, j < i → s j = f j) : ∀ j, j < i + 1 → upd s i (f i) j = f j := by
  intro j hj
  by_cases e : j = i
  · rw [e, pk_us]
  · rw [pk_un e]
    exact h j (by omega)
theorem wi_op (p : Int32) : wi_Op (2 + ((p &&& 2147483647) - (p &&& 2147483647) / 5 * 5)) := by
  obtain ⟨j, hj, e⟩ := pk_andE p (m := 2147483647) 31 (by decide)
  rw [e]
  have h : nI j - nI j / 5 * 5 = nI (j % 5) := pk_rem (d := 5) hj (by decide) (by decide)
  rw [h]
  have h5 : j % 5 < 5 := Nat.mod_lt _ (by decide)
  generalize j % 5 = k at h5
  have H : ∀ k, k < 5 → (2 + nI k = 2 ∨ 2 + nI k = 3 ∨ 2 + nI k = 4 ∨ 2 + nI k = 5 ∨ 2 + nI k = 6) := by decide +kernel
  exact H k h5
theorem wi_off {post : Int32 → Prop} {u : St0} {p : Int32} (k : Nat) (hk : k < 16) (h : post 0) (hp : p = nI k := by rfl) : wpX_off post u p := by
  subst hp
  exact pk_lt k 0 (fun z => absurd z (by omega)) (fun _ => pk_lt k 16 (fun _ => h) (fun z => absurd z (by omega)))
theorem wi_init {post : St2 → Prop} {mc ms : Nat} (hc : 13 ≤ mc) (hs : 387 ≤ ms) (H : ∀ o : Nat → Int32, (∀ j, j < 16 → o j = nI j) → post (0, 0, 0, (fun _ => 0), (fun _ => 0), (fun _ => 0), (fun _ => 0), (fun _ => 0), o, (fun _ => 0), (fun _ => 0), (fun _ => 0), (fun _ => 0), (fun _ => 0), (fun _ => 0), (fun _ => 0))) : wpX_init post mc ms (0, 0, 0) := by
  refine ⟨by omega, by omega, by omega, by omega, by omega, by omega, by omega, by omega, by omega, by omega, by omega, by omega, by omega, by omega, by omega, by omega, by omega, by omega, by omega, by omega, by omega, by omega, by omega, by omega, by omega, by omega, ?_⟩
  exact pk_loop (fun n i s => wX_init_111 post mc ms 13 387 0 0 0 n (nI i) (fun _ => 0) (fun _ => 0) (fun _ => 0) (fun _ => 0) (fun _ => 0) s (fun _ => 0) (fun _ => 0) (fun _ => 0) (fun _ => 0) (fun _ => 0) (fun _ => 0) (fun _ => 0)) (fun i s => ∀ j, j < i → s j = nI j) 16 0 (fun _ => 0) (by omega) (fun j hj => absurd hj (by omega))
    (fun n s h => pk_le 16 16 (fun _ => H s h) (fun z => absurd z (by omega)))
    (fun n i s hi h hw => pk_le 16 i (fun z => absurd z (by omega)) (fun _ => ⟨pk_in i 16 hi, nm_r (by rw [nI_clamp (by omega)]) (nm_r (nI_1 i) (hw _ (wi_fill h)))⟩))
theorem wi_cell {post : Int32 → Prop} {L : Nat} {xs : Nat → Int32} {u : St0} {p : Int32} (k : Nat) (hL : L ≤ 4) (hk : k < 4) (H : ∀ r, post r) (hp : p = nI k := by rfl) : wpL_cellAt post L xs u p := by
  subst hp
  exact pk_le L k (fun _ => H 0) (fun z => ⟨pk_in k L z, H _⟩)
section
variable {t f1 f2 : Int32} {a1 a2 a3 a4 a5 a6 a7 a8 a9 a10 a11 a12 a13 : Nat → Int32}
theorem wi_val {post : Int32 → Prop} {p : Int32} (k : Nat) (hk : k < 16) (H : post (a5 k)) (hp : p = nI k := by rfl) : wpX_value post (t, f1, f2, a1, a2, a3, a4, a5, a6, a7, a8, a9, a10, a11, a12, a13) p := by
  subst hp
  unfold wpX_value
  dsimp only
  refine wi_off k hk ?_
  refine br_t rfl ⟨pk_in k 16 hk, ?_⟩
  rw [nI_clamp (by omega)]
  exact H
theorem wi_tok {post : Int32 → St2 → Prop} {kind arg : Int32} (k : Nat) (hk : k < 8) (h0 : ¬ kind < 0) (h7 : ¬ 7 < kind) (h1 : kind = 1 → ∃ c, c < 16 ∧ arg = nI c)
    (H : ∀ r, post r (nI (k + 1), f1, f2, a1, a2, a3, a4, a5, a6, upd a7 k kind, upd a8 k arg, a9, a10, a11, a12, a13)) : wpX_token post (nI k, f1, f2, a1, a2, a3, a4, a5, a6, a7, a8, a9, a10, a11, a12, a13) kind arg := by
  have h : wX_token_25 post kind arg (nI k) f1 f2 a1 a2 a3 a4 a5 a6 a7 a8 a9 a10 a11 a12 a13 := by
    refine pk_lt k 8 (fun _ => ⟨pk_in k 8 hk, nm_r (by rw [nI_clamp (by omega)]) ⟨pk_in k 8 hk, nm_r (by rw [nI_clamp (by omega)]) (nm_r (nI_1 k) (H _))⟩⟩) (fun z => absurd z (by omega))
  refine br_f h0 (br_f h7 (br_c (fun e => ?_) (fun _ => h)))
  obtain ⟨c, hc, ea⟩ := h1 e
  refine wi_off c hc ?_ ea
  exact br_t rfl h
end
end
section
section
variable {t f1 f2 : Int32} {a1 a2 a3 a4 a5 a6 a7 a8 a9 a10 a11 a12 a13 : Nat → Int32}
/-- one cell passed over -/
theorem wi_spS {post : Int32 → St2 → Prop} {x2 x3 x4 : Int32} {n : Nat} (i c : Nat) (hi : i < 16) (hc : c < 16) (ho : a6 i = nI c) (hn : a4 c &&& x3 = 0)
    (H : wX_spread_8 post x2 n x3 x4 (nI (i + 1)) t f1 f2 a1 a2 a3 a4 a5 a6 a7 a8 a9 a10 a11 a12 a13) : wX_spread_8 post x2 (n + 1) x3 x4 (nI i) t f1 f2 a1 a2 a3 a4 a5 a6 a7 a8 a9 a10 a11 a12 a13 := by
  refine pk_le 16 i (fun z => absurd z (by omega)) (fun _ => ⟨pk_in i 16 hi, nm_r (e' := nI c) (by rw [nI_clamp (by omega), ho]) ?_⟩)
  refine br_c (fun _ => ⟨pk_in c 16 hc, br_t ?_ (nm_r (nI_1 i) H)⟩) (fun _ => nm_r (nI_1 i) H)
  rw [nI_clamp (by omega)]
  exact hn
theorem wi_spE {post : Int32 → St2 → Prop} {x2 x3 x4 : Int32} {n : Nat} (H : post x4 (t, f1, f2, a1, a2, a3, a4, a5, a6, a7, a8, a9, a10, a11, a12, a13)) : wX_spread_8 post x2 (n + 1) x3 x4 (nI 16) t f1 f2 a1 a2 a3 a4 a5 a6 a7 a8 a9 a10 a11 a12 a13 :=
  pk_le 16 16 (fun _ => H) (fun z => absurd z (by omega))
/-- a run of cells passed over -/
theorem wi_spR {post : Int32 → St2 → Prop} {x2 x3 x4 : Int32} {n : Nat} (k : Nat) : ∀ i, i + k ≤ 16 → (∀ j, i ≤ j → j < i + k → ∃ c, c < 16 ∧ a6 j = nI c ∧ a4 c &&& x3 = 0) →
    wX_spread_8 post x2 n x3 x4 (nI (i + k)) t f1 f2 a1 a2 a3 a4 a5 a6 a7 a8 a9 a10 a11 a12 a13 → wX_spread_8 post x2 (n + k) x3 x4 (nI i) t f1 f2 a1 a2 a3 a4 a5 a6 a7 a8 a9 a10 a11 a12 a13 := by
  induction k with
  | zero => exact fun i _ _ h => h
  | succ k ih =>
    intro i hi hz h
    obtain ⟨c, hc, ho, hn⟩ := hz i (by omega) (by omega)
    refine wi_spS (n := n + k) i c (by omega) hc ho hn (ih (i + 1) (by omega) (fun j h1 h2 => hz j (by omega) (by omega)) ?_)
    rw [show i + 1 + k = i + (k + 1) by omega]
    exact h
/-- nothing hangs on the set: nothing is worked anew -/
theorem wi_sp0 {post : Int32 → St2 → Prop} {x2 x3 : Int32} (ho : ∀ j, j < 16 → ∃ c, c < 16 ∧ a6 j = nI c) (hn : ∀ j, j < 16 → a4 j &&& x3 = 0) (H : post 0 (t, f1, f2, a1, a2, a3, a4, a5, a6, a7, a8, a9, a10, a11, a12, a13)) : wpX_spread post (t, f1, f2, a1, a2, a3, a4, a5, a6, a7, a8, a9, a10, a11, a12, a13) x3 x2 := by
  refine ⟨1 + 16, wi_spR (n := 1) 16 0 (by omega) (fun j _ h2 => ?_) (wi_spE H)⟩
  obtain ⟨c, hc, e⟩ := ho j (by omega)
  exact ⟨c, hc, e, hn c hc⟩
/-- a number while no cell names another -/
theorem wi_num0 {post : Int32 → St2 → Prop} {p v : Int32} (k : Nat) (hk : k < 16) (ho : ∀ j, j < 16 → ∃ c, c < 16 ∧ a6 j = nI c) (hn : ∀ j, j < 16 → a4 j = 0)
    (H : ∀ r b1 b4 b5, (∀ j, j < 16 → b4 j = 0) → b5 k = v → (∀ j, j ≠ k → b5 j = a5 j) → post r (t, f1, f2, b1, a2, a3, b4, b5, a6, a7, a8, a9, a10, a11, a12, a13)) (hp : p = nI k := by rfl) : wpX_number post (t, f1, f2, a1, a2, a3, a4, a5, a6, a7, a8, a9, a10, a11, a12, a13) p v := by
  subst hp
  have h4 : ∀ j, j < 16 → upd a4 k 0 j = 0 := by
    intro j hj
    by_cases e : j = k
    · rw [e, pk_us]
    · rw [pk_un e]
      exact hn j hj
  unfold wpX_number
  dsimp only
  refine wi_off k hk ?_
  refine br_t rfl ⟨pk_in k 16 hk, nm_r (e' := upd a1 k 0) (by rw [nI_clamp (by omega)]) ⟨pk_in k 16 hk, nm_r (e' := upd a4 k 0) (by rw [nI_clamp (by omega)]) ⟨pk_in k 16 hk, ?_⟩⟩⟩
  rw [nI_clamp (by omega)]
  refine br_c (fun e => H _ _ _ _ h4 e (fun _ _ => rfl)) (fun _ => ⟨pk_in k 16 hk, nm_e ?_⟩)
  refine wi_sp0 ho (fun j hj => ?_) (H _ _ _ _ h4 pk_us (fun j hj => pk_un hj))
  rw [h4 j hj]
  exact Int32.zero_and
end
end
section
section
variable {t f1 f2 : Int32} {a1 a2 a3 a4 a5 a6 a7 a8 a9 a10 a11 a12 a13 : Nat → Int32}
theorem wi_k0 : ((2 : Int32) - 2).toNatClampNeg = 0 := by decide
theorem wi_k1 : ((2 : Int32) - 1).toNatClampNeg = 1 := by decide
theorem wi_in0 : vp_in ((2 : Int32) - 2) 9 := vp_in_iff.mpr (by decide)
theorem wi_in1 : vp_in ((2 : Int32) - 1) 9 := vp_in_iff.mpr (by decide)
theorem wi_up {x : Int32} : upd a13 ((2 : Int32) - 2).toNatClampNeg x 0 = x := by rw [wi_k0, pk_us]
/-- an operation on the two topmost of two -/
theorem wi_app {post : Int32 → St2 → Prop} {op x y : Int32} (hop : wi_Op op) (hx : a13 0 = x) (hy : a13 1 = y)
    (H : ∀ r b, r = 1 → b 0 = wi_f op x y → post r (t, f1, f2, a1, a2, a3, a4, a5, a6, a7, a8, a9, a10, a11, a12, b)) : wpX_apply post (t, f1, f2, a1, a2, a3, a4, a5, a6, a7, a8, a9, a10, a11, a12, a13) op 2 := by
  have ex : a13 ((2 : Int32) - 2).toNatClampNeg = x := by rw [wi_k0, hx]
  have ey : a13 ((2 : Int32) - 1).toNatClampNeg = y := by rw [wi_k1, hy]
  have r1 : (2 : Int32) - 1 = 1 := by decide
  rcases hop with rfl | rfl | rfl | rfl | rfl
  · refine br_f (by decide) (br_t (by decide) ⟨wi_in0, nm_r ex ⟨wi_in1, nm_r ey ?_⟩⟩)
    exact br_f (by decide) (br_f (by decide) (br_t rfl ⟨wi_in0, nm_e (H _ _ r1 wi_up)⟩))
  · refine br_f (by decide) (br_t (by decide) ⟨wi_in0, nm_r ex ⟨wi_in1, nm_r ey ?_⟩⟩)
    exact br_f (by decide) (br_f (by decide) (br_f (by decide) (br_t rfl ⟨wi_in0, nm_e (H _ _ r1 wi_up)⟩)))
  · refine br_f (by decide) (br_t (by decide) ⟨wi_in0, nm_r ex ⟨wi_in1, nm_r ey ?_⟩⟩)
    exact br_f (by decide) (br_f (by decide) (br_f (by decide) (br_f (by decide) (br_t rfl ⟨wi_in0, nm_e (H _ _ r1 wi_up)⟩))))
  · refine br_f (by decide) (br_t (by decide) ⟨wi_in0, nm_r ex ⟨wi_in1, nm_r ey ?_⟩⟩)
    refine br_f (by decide) (br_f (by decide) (br_f (by decide) (br_f (by decide) (br_f (by decide) (br_t rfl ?_)))))
    have e : wi_f 5 x y = if y ≤ x then y else x := rfl
    refine br_c (fun z => ⟨wi_in0, nm_e (H _ _ r1 ?_)⟩) (fun z => ⟨wi_in0, nm_e (H _ _ r1 ?_)⟩)
    · rw [wi_up, e, if_pos z]
    · rw [wi_up, e, if_neg z]
  · refine br_f (by decide) (br_t (by decide) ⟨wi_in0, nm_r ex ⟨wi_in1, nm_r ey ?_⟩⟩)
    refine br_f (by decide) (br_t (by decide) ?_)
    have e : wi_f 6 x y = if x ≤ y then y else x := rfl
    refine br_c (fun z => ⟨wi_in0, nm_e (H _ _ r1 ?_)⟩) (fun z => ⟨wi_in0, nm_e (H _ _ r1 ?_)⟩)
    · rw [wi_up, e, if_pos z]
    · rw [wi_up, e, if_neg z]
theorem wi_z8 (i : Nat) : (0 : Int32) * 8 + nI i = nI i := by rw [Int32.zero_mul, Int32.zero_add]
/-- a token that names a cell -/
theorem wi_wkC {post : Int32 → St2 → Prop} {n : Nat} (i m c : Nat) (hi : i < 3) (hm : m < 9) (hc : c < 16) (h1 : a1 0 = 3) (h2 : a2 i = 1) (h3 : a3 i = nI c)
    (H : wX_work_4 post 0 n (nI (m + 1)) (nI (i + 1)) t f1 f2 a1 a2 a3 a4 a5 a6 a7 a8 a9 a10 a11 a12 (upd a13 m (a5 c))) : wX_work_4 post 0 (n + 1) (nI m) (nI i) t f1 f2 a1 a2 a3 a4 a5 a6 a7 a8 a9 a10 a11 a12 a13 := by
  refine ⟨pk_in 0 16 (by omega), pk_le 3 i (fun z => absurd z (by omega)) (fun _ => ?_) h1⟩
  rw [wi_z8 i]
  refine ⟨pk_in i 128 (by omega), nm_r (e' := 1) (by rw [nI_clamp (by omega), h2]) ⟨pk_in i 128 (by omega), nm_r (e' := nI c) (by rw [nI_clamp (by omega), h3]) ?_⟩⟩
  refine br_f (by decide) (br_t rfl ⟨pk_in c 16 hc, pk_in m 9 hm, nm_r (by rw [nI_clamp (by omega), nI_clamp (by omega)]) (nm_r (nI_1 m) (nm_r (nI_1 i) H))⟩)
/-- the formula of cell 0 -/
theorem wi_work {post : Int32 → St2 → Prop} {op x y : Int32} (hop : wi_Op op) (h1 : a1 0 = 3) (k0 : a2 0 = 1) (k1 : a2 1 = 1) (k2 : a2 2 = op) (g0 : a3 0 = 3) (g1 : a3 1 = 12) (hx : a5 3 = x) (hy : a5 12 = y)
    (H : ∀ b, post (wi_f op x y) (t, f1, f2, a1, a2, a3, a4, a5, a6, a7, a8, a9, a10, a11, a12, b)) : wpX_work post (t, f1, f2, a1, a2, a3, a4, a5, a6, a7, a8, a9, a10, a11, a12, a13) 0 := by
  refine ⟨4, wi_wkC 0 0 3 (by omega) (by omega) (by omega) h1 k0 g0 (wi_wkC 1 1 12 (by omega) (by omega) (by omega) h1 k1 g1 ?_)⟩
  refine ⟨pk_in 0 16 (by omega), pk_le 3 2 (fun z => absurd z (by omega)) (fun _ => ?_) h1⟩
  rw [wi_z8 2]
  refine ⟨pk_in 2 128 (by omega), nm_r (e' := op) (by rw [nI_clamp (by omega), k2]) ⟨pk_in 2 128 (by omega), nm_e ?_⟩⟩
  have n0 : ¬ op = 0 := by
    rcases hop with rfl | rfl | rfl | rfl | rfl <;> decide
  have n1 : ¬ op = 1 := by
    rcases hop with rfl | rfl | rfl | rfl | rfl <;> decide
  refine br_f n0 (br_f n1 (wi_app (x := x) (y := y) hop ?_ ?_ (fun r b er eb => nm_r (nI_1 2) ?_)))
  · rw [pk_un (by decide), pk_us, hx]
  · rw [pk_us, hy]
  · refine ⟨pk_in 0 16 (by omega), pk_le 3 3 (fun _ => ?_) (fun z => absurd z (by omega)) h1⟩
    rw [eb]
    exact H b
end
end
section
/-- a cell may be placed -/
def wi_rd (j : Nat) (p : Int32) : Prop := ((p >>> (nI j &&& 31)) &&& 1) = 0 ∧ (wi_nm j &&& (p ^^^ (-1))) = 0
theorem wi_tabN : ∀ i, i < 16 → ∀ j, j < wi_so i → ¬ (((wi_pl i >>> (nI j &&& 31)) &&& 1) = 0 ∧ (wi_nm j &&& (wi_pl i ^^^ (-1))) = 0) := by decide +kernel
theorem wi_tabR : ∀ i, i < 16 → wi_so i < 15 → (((wi_pl i >>> (nI (wi_so i) &&& 31)) &&& 1) = 0 ∧ (wi_nm (wi_so i) &&& (wi_pl i ^^^ (-1))) = 0) := by decide +kernel
section
variable {t f1 f2 : Int32} {a1 a2 a3 a4 a5 a6 a7 a8 a9 a10 a11 a12 a13 : Nat → Int32}
theorem wi_rdT {post : Int32 → Prop} {p : Int32} (c : Nat) (hc : c < 16) (hn : a4 c = wi_nm c) (h : wi_rd c p) (H : post 1) : wpX_readyToPlace post (t, f1, f2, a1, a2, a3, a4, a5, a6, a7, a8, a9, a10, a11, a12, a13) (nI c) p := by
  refine br_t h.1 ⟨pk_in c 16 hc, br_t ?_ H⟩
  rw [nI_clamp (by omega), hn]
  exact h.2
theorem wi_rdF {post : Int32 → Prop} {p : Int32} (c : Nat) (hc : c < 16) (hn : a4 c = wi_nm c) (h : ¬ wi_rd c p) (H : post 0) : wpX_readyToPlace post (t, f1, f2, a1, a2, a3, a4, a5, a6, a7, a8, a9, a10, a11, a12, a13) (nI c) p := by
  refine br_c (fun z => ⟨pk_in c 16 hc, br_f ?_ H⟩) (fun _ => H)
  rw [nI_clamp (by omega), hn]
  exact fun g => h ⟨z, g⟩
/-- the search for the next cell -/
theorem wi_in {post : St2 → Prop} {J : Int32 → Int32 → (Nat → Int32) → (Nat → Int32) → (Nat → Int32) → (Nat → Int32) → (Nat → Int32) → (Nat → Int32) → (Nat → Int32) → (Nat → Int32) → (Nat → Int32) → (Nat → Int32) → (Nat → Int32) → (Nat → Int32) → (Nat → Int32) → Prop} {x1 x2 : Int32} (c : Nat) (hc : c < 16)
    (hn : ∀ j, j < 16 → a4 j = wi_nm j) (hlo : ∀ j, j < c → ¬ wi_rd j x1) (hr : c < 15 → wi_rd c x1) (H : wX_sortCells_33 post J x1 x2 (nI c) t f1 f2 a1 a2 a3 a4 a5 a6 a7 a8 a9 a10 a11 a12 a13) : ∃ n, wX_sortCells_12 post J x1 x2 t f1 f2 a1 a2 a3 a4 a5 a6 a7 a8 a9 a10 a11 a12 a13 n 0 :=
  pk_loop (σ := Unit) (fun n i _ => wX_sortCells_12 post J x1 x2 t f1 f2 a1 a2 a3 a4 a5 a6 a7 a8 a9 a10 a11 a12 a13 n (nI i)) (fun _ _ => True) c 0 () (by omega) trivial
    (fun n _ _ => pk_le 15 c (fun _ => H) (fun z => wi_rdT c hc (hn c hc) (hr z) (br_f (by decide) H)))
    (fun n i _ hi _ hw => pk_le 15 i (fun z => absurd z (by omega)) (fun _ => wi_rdF i (by omega) (hn i (by omega)) (hlo i hi) (br_t rfl (nm_r (nI_1 i) (hw () trivial)))))
theorem wi_sort {post : St2 → Prop} (hn : ∀ j, j < 16 → a4 j = wi_nm j) (H : ∀ o : Nat → Int32, (∀ j, j < 16 → o j = nI (wi_so j)) → post (t, f1, f2, a1, a2, a3, a4, a5, o, a7, a8, a9, a10, a11, a12, a13)) : wpX_sortCells post (t, f1, f2, a1, a2, a3, a4, a5, a6, a7, a8, a9, a10, a11, a12, a13) :=
  pk_loop (fun n i s => wX_sortCells_4 post t f1 f2 n (wi_pl i) (nI i) a1 a2 a3 a4 a5 s a7 a8 a9 a10 a11 a12 a13) (fun i s => ∀ j, j < i → s j = nI (wi_so j)) 16 0 a6 (by omega) (fun j hj => absurd hj (by omega))
    (fun n s h => pk_le 16 16 (fun _ => H s h) (fun z => absurd z (by omega)))
    (fun n i s hi h hw => pk_le 16 i (fun z => absurd z (by omega)) (fun _ => wi_in (wi_so i) (wi_so_lt hi) hn (wi_tabN i hi) (wi_tabR i hi)
      ⟨pk_in i 16 hi, nm_r (e' := upd s i (nI (wi_so i))) (by rw [nI_clamp (by omega)]) (nm_r (e' := wi_pl (i + 1)) rfl (nm_r (nI_1 i) (hw _ (wi_fill (f := fun j => nI (wi_so j)) h))))⟩))
end
end
section
section
variable {t f1 f2 : Int32} {a1 a2 a3 a4 a5 a6 a7 a8 a9 a10 a11 a12 a13 : Nat → Int32}
/-- nothing hangs on the set -/
theorem wi_ab0 {post : Int32 → Prop} {p : Int32} (ho : ∀ j, j < 16 → ∃ c, c < 16 ∧ a6 j = nI c) (hn : ∀ j, j < 16 → a4 j = 0) (H : post p) : wpX_above post (t, f1, f2, a1, a2, a3, a4, a5, a6, a7, a8, a9, a10, a11, a12, a13) p :=
  pk_loop (σ := Unit) (fun n i _ => wX_above_4 post t f1 f2 a1 a2 a3 a4 a5 a6 a7 a8 a9 a10 a11 a12 a13 n p (nI i)) (fun _ _ => True) 16 0 () (by omega) trivial
    (fun n _ _ => pk_le 16 16 (fun _ => H) (fun z => absurd z (by omega)))
    (fun n i _ hi _ hw => by
      obtain ⟨c, hc, e⟩ := ho i hi
      refine pk_le 16 i (fun z => absurd z (by omega)) (fun _ => ⟨pk_in i 16 hi, nm_r (e' := nI c) (by rw [nI_clamp (by omega), e]) ⟨pk_in c 16 hc, br_t ?_ (nm_r (nI_1 i) (hw () trivial))⟩⟩)
      rw [nI_clamp (by omega), hn c hc]
      exact Int32.zero_and)
theorem wi_pops0 {post : Int32 → Prop} {u : St0} (H : post 0) : wpX_pops post u 1 := br_f (by decide) H
theorem wi_pops2 {post : Int32 → Prop} {u : St0} {op : Int32} (hop : wi_Op op) (H : post 2) : wpX_pops post u op := by
  rcases hop with rfl | rfl | rfl | rfl | rfl <;> exact br_t (by decide) (br_f (by decide) H)
theorem wi_sound {post : Int32 → Prop} {op : Int32} (hop : wi_Op op) (k0 : a7 0 = 1) (k1 : a7 1 = 1) (k2 : a7 2 = op) (H : post 1) : wpX_sound post (3, f1, f2, a1, a2, a3, a4, a5, a6, a7, a8, a9, a10, a11, a12, a13) := by
  refine ⟨4, pk_le 3 0 (fun z => absurd z (by omega)) (fun _ => ⟨pk_in 0 8 (by omega), ?_⟩)⟩
  rw [pk_cl 0, k0]
  refine wi_pops0 (br_t (by decide) (nm_r (e' := nI 1) (by decide) (nm_r (e' := nI 1) (by decide) ?_)))
  refine pk_le 3 1 (fun z => absurd z (by omega)) (fun _ => ⟨pk_in 1 8 (by omega), ?_⟩)
  rw [pk_cl 1, k1]
  refine wi_pops0 (br_t (by decide) (nm_r (e' := nI 2) (by decide) (nm_r (e' := nI 2) (by decide) ?_)))
  refine pk_le 3 2 (fun z => absurd z (by omega)) (fun _ => ⟨pk_in 2 8 (by omega), ?_⟩)
  rw [pk_cl 2, k2]
  refine wi_pops2 hop (br_t (by decide) (nm_r (e' := nI 1) (by decide) (nm_r (e' := nI 3) (by decide) ?_)))
  exact pk_le 3 3 (fun _ => br_t rfl H) (fun z => absurd z (by omega))
theorem wi_names {post : Int32 → Prop} {op : Int32} (hop : wi_Op op) (k0 : a7 0 = 1) (k1 : a7 1 = 1) (k2 : a7 2 = op) (g0 : a8 0 = 3) (g1 : a8 1 = 12) (H : post 4104) : wpX_typedNames post (3, f1, f2, a1, a2, a3, a4, a5, a6, a7, a8, a9, a10, a11, a12, a13) := by
  have n1 : ¬ op = 1 := by
    rcases hop with rfl | rfl | rfl | rfl | rfl <;> decide
  refine ⟨4, pk_le 3 0 (fun z => absurd z (by omega)) (fun _ => ⟨pk_in 0 8 (by omega), br_t ?_ ⟨pk_in 0 8 (by omega), nm_r (e' := 8) ?_ (nm_r (e' := nI 1) (by decide) ?_)⟩⟩)⟩
  · rw [pk_cl 0, k0]
  · rw [pk_cl 0, g0]
    decide
  refine pk_le 3 1 (fun z => absurd z (by omega)) (fun _ => ⟨pk_in 1 8 (by omega), br_t ?_ ⟨pk_in 1 8 (by omega), nm_r (e' := 4104) ?_ (nm_r (e' := nI 2) (by decide) ?_)⟩⟩)
  · rw [pk_cl 1, k1]
  · rw [pk_cl 1, g1]
    decide
  refine pk_le 3 2 (fun z => absurd z (by omega)) (fun _ => ⟨pk_in 2 8 (by omega), br_f ?_ (nm_r (e' := nI 3) (by decide) ?_)⟩)
  · rw [pk_cl 2, k2]
    exact n1
  exact pk_le 3 3 (fun _ => H) (fun z => absurd z (by omega))
/-- one token put by -/
theorem wi_f67 {post : Int32 → St2 → Prop} {x3 : Int32} {n : Nat} (i : Nat) (hi : i < 3) (H : wX_formula_67 post 0 x3 3 t f1 f2 n (nI (i + 1)) a1 (upd a2 i (a7 i)) (upd a3 i (a8 i)) a4 a5 a6 a7 a8 a9 a10 a11 a12 a13) :
    wX_formula_67 post 0 x3 3 t f1 f2 (n + 1) (nI i) a1 a2 a3 a4 a5 a6 a7 a8 a9 a10 a11 a12 a13 := by
  refine pk_le 3 i (fun z => absurd z (by omega)) (fun _ => ?_)
  rw [wi_z8 i, nI_clamp (show i < 2 ^ 31 by omega)]
  exact ⟨pk_in i 8 (by omega), pk_in i 128 (by omega), nm_e ⟨pk_in i 8 (by omega), pk_in i 128 (by omega), nm_e (nm_r (nI_1 i) H)⟩⟩
/-- the formula is put in: the end of the method -/
theorem wi_fend {post : Int32 → St2 → Prop} {op x y : Int32} {n : Nat} (hop : wi_Op op) (h1 : a1 0 = 3) (k0 : a2 0 = 1) (k1 : a2 1 = 1) (k2 : a2 2 = op) (g0 : a3 0 = 3) (g1 : a3 1 = 12) (hx : a5 3 = x) (hy : a5 12 = y)
    (hn : ∀ j, j < 16 → a4 j = 0)
    (H : ∀ b4 b5 b6 b13, (∀ j, j < 16 → b4 j = wi_nm j) → b5 0 = wi_f op x y → (∀ j, j ≠ 0 → b5 j = a5 j) → (∀ j, j < 16 → b6 j = nI (wi_so j)) → post 0 (t, f1, f2, a1, a2, a3, b4, b5, b6, a7, a8, a9, a10, a11, a12, b13)) :
    wX_formula_67 post 0 4104 3 t f1 f2 (n + 1) (nI 3) a1 a2 a3 a4 a5 a6 a7 a8 a9 a10 a11 a12 a13 := by
  have h4 : ∀ j, j < 16 → upd a4 0 4104 j = wi_nm j := by
    intro j hj
    by_cases e : j = 0
    · rw [e, pk_us]
      rfl
    · rw [pk_un e, hn j hj, wi_nm, if_neg e]
  refine pk_le 3 3 (fun _ => ⟨pk_in 0 16 (by omega), nm_r (e' := upd a4 0 4104) (by rw [pk_cl 0]) (wi_sort h4 (fun o ho => ?_))⟩) (fun z => absurd z (by omega))
  refine wi_work hop h1 k0 k1 k2 g0 g1 hx hy (fun b => ⟨pk_in 0 16 (by omega), ?_⟩)
  rw [pk_cl (x := 0) 0]
  refine br_c (fun e => H _ _ _ _ h4 e.symm (fun _ _ => rfl) ho) (fun _ => ⟨pk_in 0 16 (by omega), nm_e ?_⟩)
  refine wi_sp0 (fun j hj => ⟨wi_so j, wi_so_lt hj, ho j hj⟩) (fun j hj => ?_) (H _ _ _ _ h4 pk_us (fun j hj => pk_un hj) ho)
  rw [h4 j hj]
  unfold wi_nm
  split
  · decide
  · decide
theorem wi_form {post : Int32 → St2 → Prop} {op x y : Int32} (hop : wi_Op op) (k0 : a7 0 = 1) (k1 : a7 1 = 1) (k2 : a7 2 = op) (g0 : a8 0 = 3) (g1 : a8 1 = 12) (hx : a5 3 = x) (hy : a5 12 = y)
    (hn : ∀ j, j < 16 → a4 j = 0) (ho : ∀ j, j < 16 → ∃ c, c < 16 ∧ a6 j = nI c)
    (H : ∀ b1 b2 b3 b4 b5 b6 b13, b1 0 = 3 → b2 0 = 1 → b2 1 = 1 → b2 2 = op → b3 0 = 3 → b3 1 = 12 → (∀ j, j < 16 → b4 j = wi_nm j) → b5 0 = wi_f op x y → b5 3 = x → b5 12 = y → (∀ j, j < 16 → b6 j = nI (wi_so j)) →
      post 0 (0, f1, f2, b1, b2, b3, b4, b5, b6, a7, a8, a9, a10, a11, a12, b13)) : wpX_formula post (3, f1, f2, a1, a2, a3, a4, a5, a6, a7, a8, a9, a10, a11, a12, a13) 0 := by
  unfold wpX_formula
  dsimp only
  refine wi_off 0 (by omega) ?_
  refine br_t rfl (wi_sound hop k0 k1 k2 ?_)
  refine wi_names hop k0 k1 k2 g0 g1 ?_
  refine wi_ab0 ho hn ?_
  refine br_f (by decide) (br_t (by decide) ⟨pk_in 0 16 (by omega), nm_r (e' := upd a1 0 3) (by rw [pk_cl 0]) ⟨4, ?_⟩⟩)
  refine wi_f67 0 (by omega) (wi_f67 1 (by omega) (wi_f67 2 (by omega) (wi_fend hop pk_us ?_ ?_ ?_ ?_ ?_ hx hy hn (fun b4 b5 b6 b13 q4 q5 q5' q6 => ?_))))
  · rw [pk_un (by decide), pk_un (by decide), pk_us, k0]
  · rw [pk_un (by decide), pk_us, k1]
  · rw [pk_us, k2]
  · rw [pk_un (by decide), pk_un (by decide), pk_us, g0]
  · rw [pk_un (by decide), pk_us, g1]
  · refine H _ _ _ _ _ _ _ pk_us ?_ ?_ ?_ ?_ ?_ q4 q5 (by rw [q5' 3 (by decide), hx]) (by rw [q5' 12 (by decide), hy]) q6
    · rw [pk_un (by decide), pk_un (by decide), pk_us, k0]
    · rw [pk_un (by decide), pk_us, k1]
    · rw [pk_us, k2]
    · rw [pk_un (by decide), pk_un (by decide), pk_us, g0]
    · rw [pk_un (by decide), pk_us, g1]
end
end
section
theorem wi_nm0 {c : Nat} (h : c ≠ 0) : wi_nm c = 0 := by rw [wi_nm, if_neg h]
theorem wi_so0 {i : Nat} (h : i ≠ 12) : wi_so i ≠ 0 := by
  unfold wi_so
  rw [if_neg h]
  split
  · omega
  · omega
def wi_ct (i : Nat) : Int32 := if i = 0 then -1 else if i ≤ 3 then 0 else 1
theorem wi_ctS : ∀ i, i < 16 → wi_ct i + (((9 : Int32) >>> (nI i &&& 31)) &&& 1) = wi_ct (i + 1) := by decide +kernel
section
variable {t f1 f2 : Int32} {a1 a2 a3 a4 a5 a6 a7 a8 a9 a10 a11 a12 a13 : Nat → Int32}
/-- the input's cell gets another number -/
theorem wi_num2 {post : Int32 → St2 → Prop} {op x y z : Int32} (hop : wi_Op op) (h1 : a1 0 = 3) (k0 : a2 0 = 1) (k1 : a2 1 = 1) (k2 : a2 2 = op) (g0 : a3 0 = 3) (g1 : a3 1 = 12)
    (hn : ∀ j, j < 16 → a4 j = wi_nm j) (hv : a5 0 = wi_f op x y) (hx : a5 3 = x) (hy : a5 12 = y) (ho : ∀ j, j < 16 → a6 j = nI (wi_so j))
    (H : ∀ r b1 b4 b5 b13, r = (if z = x then (0 : Int32) else 1) + (if wi_f op z y = wi_f op x y then (0 : Int32) else 1) → (∀ j, j < 16 → b4 j = wi_nm j) → b5 0 = wi_f op z y → post r (t, f1, f2, b1, a2, a3, b4, b5, a6, a7, a8, a9, a10, a11, a12, b13)) :
    wpX_number post (t, f1, f2, a1, a2, a3, a4, a5, a6, a7, a8, a9, a10, a11, a12, a13) 3 z := by
  have h4 : ∀ j, j < 16 → upd a4 3 0 j = wi_nm j := by
    intro j hj
    by_cases e : j = 3
    · rw [e, pk_us]
      rfl
    · rw [pk_un e]
      exact hn j hj
  have h1' : upd a1 3 0 0 = 3 := by rw [pk_un (by decide), h1]
  have sk : ∀ (x3 : Int32) (j : Nat), j ≠ 12 → j < 16 → ∃ c, c < 16 ∧ a6 j = nI c ∧ upd a4 3 0 c &&& x3 = 0 := by
    intro x3 j e hj
    refine ⟨wi_so j, wi_so_lt hj, ho j hj, ?_⟩
    rw [h4 _ (wi_so_lt hj), wi_nm0 (wi_so0 e)]
    exact Int32.zero_and
  unfold wpX_number
  dsimp only
  refine wi_off 3 (by omega) ?_
  refine br_t rfl ⟨pk_in 3 16 (by omega), nm_r (e' := upd a1 3 0) (by rw [pk_cl 3]) ⟨pk_in 3 16 (by omega), nm_r (e' := upd a4 3 0) (by rw [pk_cl 3]) ⟨pk_in 3 16 (by omega), ?_⟩⟩⟩
  rw [pk_cl (x := 3) 3, hx]
  refine br_c (fun e => ?_) (fun e => ⟨pk_in 3 16 (by omega), nm_e ?_⟩)
  · subst e
    refine H _ _ _ _ _ ?_ h4 hv
    rw [if_pos rfl, if_pos rfl]
    rfl
  refine ⟨1 + 3 + 1 + 12, wi_spR (n := 1 + 3 + 1) 12 0 (by omega) (fun j _ hj => sk _ j (by omega) (by omega)) ?_⟩
  refine pk_le 16 12 (fun z => absurd z (by omega)) (fun _ => ⟨pk_in 12 16 (by omega), nm_r (e' := nI 0) (by rw [nI_clamp (by omega), ho 12 (by omega)]; rfl) ?_⟩)
  refine br_t (by decide) ⟨pk_in 0 16 (by omega), ?_⟩
  rw [pk_cl (x := nI 0) 0, h4 0 (by omega), h1']
  refine br_f (by decide) ⟨pk_in 0 16 (by omega), br_f (by decide) (wi_work (x := z) (y := y) hop h1' k0 k1 k2 g0 g1 pk_us (by rw [pk_un (by decide), hy]) (fun b => ⟨pk_in 0 16 (by omega), ?_⟩))⟩
  rw [pk_un (show 0 ≠ 3 by decide), hv]
  refine br_c (fun g => nm_r (nI_1 12) (wi_spR (n := 1) 3 13 (by omega) (fun j h h' => sk _ j (by omega) (by omega)) (wi_spE ?_))) (fun g => ⟨pk_in 0 16 (by omega), nm_e (nm_e (nm_r (e' := 1) (by decide) (nm_r (nI_1 12) (wi_spR (n := 1) 3 13 (by omega) (fun j h h' => sk _ j (by omega) (by omega)) (wi_spE ?_)))))⟩)
  · refine H _ (upd a1 3 0) (upd a4 3 0) (upd a5 3 z) b ?_ h4 ?_
    · rw [if_neg (fun h => e h.symm), if_pos g]
    · rw [pk_un (by decide), hv, g]
  · refine H _ (upd a1 3 0) (upd a4 3 0) (upd (upd a5 3 z) 0 (wi_f op z y)) b ?_ h4 pk_us
    rw [if_neg (fun h => e h.symm), if_neg g]
/-- what hangs on cell 3: itself and cell 0 -/
theorem wi_ab8 {post : Int32 → Prop} (hn : ∀ j, j < 16 → a4 j = wi_nm j) (ho : ∀ j, j < 16 → a6 j = nI (wi_so j)) (H : post 9) : wpX_above post (t, f1, f2, a1, a2, a3, a4, a5, a6, a7, a8, a9, a10, a11, a12, a13) ((1 : Int32) <<< ((3 : Int32) &&& 31)) :=
  pk_loop (σ := Int32) (fun n i s => wX_above_4 post t f1 f2 a1 a2 a3 a4 a5 a6 a7 a8 a9 a10 a11 a12 a13 n s (nI i)) (fun i s => s = if i ≤ 12 then 8 else 9) 16 0 ((1 : Int32) <<< ((3 : Int32) &&& 31)) (by omega) (by decide)
    (fun n s h => pk_le 16 16 (fun _ => by rw [show s = 9 from h]; exact H) (fun z => absurd z (by omega)))
    (fun n i s hi h hw => by
      refine pk_le 16 i (fun z => absurd z (by omega)) (fun _ => ⟨pk_in i 16 hi, nm_r (e' := nI (wi_so i)) (by rw [nI_clamp (by omega), ho i hi]) ⟨pk_in _ 16 (wi_so_lt hi), ?_⟩⟩)
      have hs := wi_so_lt hi
      rw [nI_clamp (by omega), hn _ hs]
      by_cases e : i = 12
      · subst e
        have h8 : s = 8 := h
        subst h8
        exact br_f (by decide) (nm_r (e' := 9) (by decide) (nm_r (nI_1 12) (hw 9 rfl)))
      · rw [wi_nm0 (wi_so0 e)]
        refine br_t Int32.zero_and (nm_r (nI_1 i) (hw s ?_))
        show s = if i + 1 ≤ 12 then 8 else 9
        have h' : s = if i ≤ 12 then 8 else 9 := h
        rw [h']
        by_cases g : i ≤ 12
        · rw [if_pos g, if_pos (by omega)]
        · rw [if_neg g, if_neg (by omega)])
theorem wi_dep {post : Int32 → Prop} (hn : ∀ j, j < 16 → a4 j = wi_nm j) (ho : ∀ j, j < 16 → a6 j = nI (wi_so j)) (H : post 1) : wpX_dependents post (t, f1, f2, a1, a2, a3, a4, a5, a6, a7, a8, a9, a10, a11, a12, a13) 3 := by
  unfold wpX_dependents
  dsimp only
  refine wi_off 3 (by omega) ?_
  refine br_t rfl (wi_ab8 hn ho ?_)
  exact pk_loop (σ := Int32) (fun n i s => wX_dependents_22 post 9 t f1 f2 a1 a2 a3 a4 a5 a6 a7 a8 a9 a10 a11 a12 a13 n s (nI i)) (fun i s => s = wi_ct i) 16 0 (-1) (by omega) (by decide)
    (fun n s h => pk_le 16 16 (fun _ => by rw [show s = 1 from h]; exact H) (fun z => absurd z (by omega)))
    (fun n i s hi h hw => pk_le 16 i (fun z => absurd z (by omega)) (fun _ => nm_r (e' := wi_ct (i + 1)) (by rw [show s = wi_ct i from h]; exact wi_ctS i hi) (nm_r (nI_1 i) (hw _ rfl))))
end
end
section
section
variable {t f1 f2 : Int32} {a1 a2 a3 a4 a5 a6 a7 a8 a9 a10 a11 a12 a13 : Nat → Int32}
/-- behind the formula -/
theorem wi_216 {post : Int32 → St0 → Prop} {mc ms kc ks : Nat} {op x y z v w : Int32} (hop : wi_Op op) (h1 : a1 0 = 3) (k0 : a2 0 = 1) (k1 : a2 1 = 1) (k2 : a2 2 = op) (g0 : a3 0 = 3) (g1 : a3 1 = 12)
    (hn : ∀ j, j < 16 → a4 j = wi_nm j) (hv : a5 0 = v) (hx : a5 3 = x) (hy : a5 12 = y) (ho : ∀ j, j < 16 → a6 j = nI (wi_so j))
    (ev : v = wi_f op x y) (ew : w = wi_f op z y) (H : post 1 ()) : wL_lawOf_216 post mc ms x z v w kc ks t f1 f2 a1 a2 a3 a4 a5 a6 a7 a8 a9 a10 a11 a12 a13 := by
  have key : ∀ z0 z1 : Int32, z1 + z0 = (if z = x then (0 : Int32) else 1) + (if wi_f op z y = wi_f op x y then (0 : Int32) else 1) → wL_lawOf_240 post mc ms z w z0 z1 kc ks t f1 f2 a1 a2 a3 a4 a5 a6 a7 a8 a9 a10 a11 a12 a13 := by
    intro z0 z1 e
    refine nm_e (wi_num2 (x := x) (y := y) hop h1 k0 k1 k2 g0 g1 hn (by rw [hv, ev]) hx hy ho (fun r b1 b4 b5 b13 er e4 e5 => ?_))
    refine br_t (by rw [er, e]) ?_
    refine wi_val 0 (by omega) ?_
    refine br_t (by rw [e5, ew]) ?_
    refine wi_dep e4 ho ?_
    exact br_t rfl H
  subst ev ew
  refine br_c (fun e => ?_) (fun e => ?_)
  · refine br_c (fun g => key _ _ ?_) (fun g => key _ _ ?_)
    · rw [if_pos e, if_pos g]
    · rw [if_pos e, if_neg g]
  · refine br_c (fun g => key _ _ ?_) (fun g => key _ _ ?_)
    · rw [if_neg e, if_pos g]
    · rw [if_neg e, if_neg g]
theorem wi_127 {post : Int32 → St0 → Prop} {mc ms kc ks : Nat} {op x y z v : Int32} (hop : wi_Op op) (k0 : a7 0 = 1) (k1 : a7 1 = 1) (k2 : a7 2 = op) (g0 : a8 0 = 3) (g1 : a8 1 = 12) (hx : a5 3 = x) (hy : a5 12 = y)
    (hn : ∀ j, j < 16 → a4 j = 0) (ho : ∀ j, j < 16 → ∃ c, c < 16 ∧ a6 j = nI c) (ev : v = wi_f op x y) (H : post 1 ()) : wL_lawOf_127 post mc ms x y z op v kc ks 3 f1 f2 a1 a2 a3 a4 a5 a6 a7 a8 a9 a10 a11 a12 a13 := by
  unfold wL_lawOf_127
  refine wi_form hop k0 k1 k2 g0 g1 hx hy hn ho (fun b1 b2 b3 b4 b5 b6 b13 q1 q2 q3 q4 q5 q6 q7 q8 q9 q10 q11 => ?_)
  refine br_t rfl ?_
  refine wi_val 0 (by omega) ?_
  refine br_t (by rw [q8, ev]) ?_
  have key : ∀ w, w = wi_f op z y → wL_lawOf_216 post mc ms x z v w kc ks 0 f1 f2 b1 b2 b3 b4 b5 b6 a7 a8 a9 a10 a11 a12 b13 := fun w ew =>
    wi_216 hop q1 q2 q3 q4 q5 q6 q7 (by rw [q8, ev]) q9 q10 q11 ev ew H
  rcases hop with rfl | rfl | rfl | rfl | rfl
  · exact br_t rfl (key _ rfl)
  · exact br_f (by decide) (br_t rfl (key _ rfl))
  · exact br_f (by decide) (br_f (by decide) (br_t rfl (key _ rfl)))
  · refine br_f (by decide) (br_f (by decide) (br_f (by decide) (br_t rfl (br_c (fun e => key _ ?_) (fun e => key _ ?_)))))
    · show y = if y ≤ z then y else z
      rw [if_pos e]
    · show z = if y ≤ z then y else z
      rw [if_neg e]
  · refine br_f (by decide) (br_f (by decide) (br_f (by decide) (br_f (by decide) (br_c (fun e => key _ ?_) (fun e => key _ ?_)))))
    · show y = if z ≤ y then y else z
      rw [if_pos e]
    · show z = if z ≤ y then y else z
      rw [if_neg e]
end
theorem wi_law {post : Int32 → St0 → Prop} (x y p z : Int32) (H : post 1 ()) : wpL_lawOf post 230 3680 () x y p z := by
  refine ⟨by omega, by omega, 13, 387, by omega, by omega, wi_init (by omega) (by omega) (fun o ho => ⟨by decide, ?_⟩)⟩
  intro op eop
  have hop : wi_Op op := by rw [eop]; exact wi_op p
  have ho' : ∀ j, j < 16 → ∃ c, c < 16 ∧ o j = nI c := fun j hj => ⟨j, hj, ho j hj⟩
  refine wi_num0 3 (by omega) ho' (fun _ _ => rfl) (fun r b1 b4 b5 q4 q5 q5' => ?_)
  refine wi_num0 12 (by omega) ho' q4 (fun r' c1 c4 c5 w4 w5 w5' => ?_)
  refine wi_tok 0 (by omega) (by decide) (by decide) (fun _ => ⟨3, by omega, rfl⟩) (fun r1 => ?_)
  refine wi_tok 1 (by omega) (by decide) (by decide) (fun _ => ⟨12, by omega, rfl⟩) (fun r2 => ?_)
  have o0 : ¬ op < 0 := by
    rcases hop with h | h | h | h | h <;> rw [h] <;> decide
  have o7 : ¬ 7 < op := by
    rcases hop with h | h | h | h | h <;> rw [h] <;> decide
  have o1 : ¬ op = 1 := by
    rcases hop with h | h | h | h | h <;> rw [h] <;> decide
  refine wi_tok 2 (by omega) o0 o7 (fun h => absurd h o1) (fun r3 => ?_)
  have key : ∀ v, v = wi_f op x y → wL_lawOf_127 post 230 3680 x y z op v (1 + 13) (16 + 387) 3 0 0 c1 (fun _ => 0) (fun _ => 0) c4 c5 o (upd (upd (upd (fun _ => 0) 0 1) 1 1) 2 op) (upd (upd (upd (fun _ => 0) 0 3) 1 12) 2 z) (fun _ => 0) (fun _ => 0) (fun _ => 0) (fun _ => 0) (fun _ => 0) := by
    intro v ev
    refine wi_127 hop ?_ ?_ pk_us ?_ ?_ ?_ w5 w4 ho' ev H
    · rw [pk_un (by decide), pk_un (by decide), pk_us]
    · rw [pk_un (by decide), pk_us]
    · rw [pk_un (by decide), pk_un (by decide), pk_us]
    · rw [pk_un (by decide), pk_us]
    · rw [w5' 3 (by decide), q5]
  clear eop
  rcases hop with rfl | rfl | rfl | rfl | rfl
  · exact br_t rfl (key _ rfl)
  · exact br_f (by decide) (br_t rfl (key _ rfl))
  · exact br_f (by decide) (br_f (by decide) (br_t rfl (key _ rfl)))
  · refine br_f (by decide) (br_f (by decide) (br_f (by decide) (br_t rfl (br_c (fun e => key _ ?_) (fun e => key _ ?_)))))
    · show y = if y ≤ x then y else x
      rw [if_pos e]
    · show x = if y ≤ x then y else x
      rw [if_neg e]
  · refine br_f (by decide) (br_f (by decide) (br_f (by decide) (br_f (by decide) (br_c (fun e => key _ ?_) (fun e => key _ ?_)))))
    · show y = if x ≤ y then y else x
      rw [if_pos e]
    · show x = if x ≤ y then y else x
      rw [if_neg e]
theorem i_vc (xs : Nat → Int32) (L : Nat) (hL : L ≤ 4) : wpL_law (fun r => r = 1) L xs := by
  unfold wpL_law
  refine wi_cell 0 hL (by omega) (fun r1 => ?_)
  refine wi_cell 1 hL (by omega) (fun r2 => ?_)
  refine wi_cell 2 hL (by omega) (fun r3 => ?_)
  refine wi_cell 3 hL (by omega) (fun r4 => ?_)
  exact ⟨230, 3680, by omega, by omega, wi_law r1 r2 r3 r4 rfl⟩
end
