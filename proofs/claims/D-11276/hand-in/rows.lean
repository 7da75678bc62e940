section
/-- an array whose first i places hold -1, the others 0 -/
def cx_N (i : Nat) : Nat → Int32 := fun j => if j < i then -1 else 0
/-- g with i places from 4 z on written over by those of f from 4 b on -/
def cx_cp (g f : Nat → Int32) (z b i : Nat) : Nat → Int32 := fun j => if 4 * z ≤ j ∧ j < 4 * z + i then f (4 * b + (j - 4 * z)) else g j
theorem cx_N0 : (fun _ => 0 : Nat → Int32) = cx_N 0 := by
  funext j
  simp [cx_N]
theorem cx_Nu {i : Nat} (h : i < 2 ^ 31) : upd (cx_N i) (nI i).toNatClampNeg (-1) = cx_N (i + 1) := by
  rw [nI_clamp h]
  funext j
  unfold upd cx_N
  by_cases e : j = i
  · rw [if_pos e, if_pos (by omega)]
  · rw [if_neg e]
    by_cases g : j < i
    · rw [if_pos g, if_pos (by omega)]
    · rw [if_neg g, if_neg (by omega)]
theorem cx_cp0 {g f : Nat → Int32} {z b : Nat} : g = cx_cp g f z b 0 := by
  funext j
  unfold cx_cp
  rw [if_neg (by omega)]
theorem cx_cpu {g f : Nat → Int32} {z b i : Nat} : upd (cx_cp g f z b i) (4 * z + i) (f (4 * b + i)) = cx_cp g f z b (i + 1) := by
  funext j
  unfold upd cx_cp
  by_cases e : j = 4 * z + i
  · rw [if_pos e, if_pos (by omega), show j - 4 * z = i by omega]
  · rw [if_neg e]
    by_cases g : 4 * z ≤ j ∧ j < 4 * z + i
    · rw [if_pos g, if_pos (by omega)]
    · rw [if_neg g, if_neg (by omega)]
theorem cx_cpi {g f : Nat → Int32} {z b i j : Nat} (h : 4 * z ≤ j ∧ j < 4 * z + i) : cx_cp g f z b i j = f (4 * b + (j - 4 * z)) := if_pos h
theorem cx_cpo {g f : Nat → Int32} {z b i j : Nat} (h : ¬ (4 * z ≤ j ∧ j < 4 * z + i)) : cx_cp g f z b i j = g j := if_neg h
theorem cx_b8 : ∀ n, n < 64 → (nI n).toInt8.toInt32 = nI n := by decide +kernel
theorem cx_m1 : ∀ n, n < 64 → ¬ (-1 : Int32) = nI n := by decide +kernel
theorem cx_rem {b : Nat} (h : b < 64) : nI b - nI b / 1 * 1 = 0 := by
  have e : nI b - nI b / nI 1 * nI 1 = nI (b % 1) := pk_rem (by omega) (by omega) (by omega)
  rw [Nat.mod_one] at e
  exact e
theorem cx_ix4 (z i : Nat) : 4 * nI z + nI i = nI (4 * z + i) := by
  have e : nI 4 * nI z = nI (4 * z) := pk_mul 4 z
  have e' : nI 4 * nI z + nI i = nI (4 * z + i) := by rw [e, nI_add]
  exact e'
theorem cx_ix8 (z i : Nat) : 8 * nI z + nI i = nI (8 * z + i) := by
  have e : nI 8 * nI z = nI (8 * z) := pk_mul 8 z
  have e' : nI 8 * nI z + nI i = nI (8 * z + i) := by rw [e, nI_add]
  exact e'
theorem cx_i0 : vp_in 0 4 := vp_in_iff.mpr (by decide)
theorem cx_i08 : vp_in 0 8 := vp_in_iff.mpr (by decide)
theorem cx_i48 : vp_in 4 8 := vp_in_iff.mpr (by decide)
/-! the constructor -/
theorem cx_i169 {post : St2 → Prop} {mc ms kc ks : Nat} {c l k nk lc : Int32} {a1 a2 a3 a4 a5 a6 a8 a9 a10 : Nat → Int32} (hp : post (c, l, k, nk, lc, a1, a2, a3, a4, a5, a6, cx_N 8, a8, a9, a10)) : ∃ n, wX_init_169 post mc ms kc ks c l k nk lc n 0 a1 a2 a3 a4 a5 a6 (fun _ => 0) a8 a9 a10 :=
  pk_loop (fun n i s => wX_init_169 post mc ms kc ks c l k nk lc n (nI i) a1 a2 a3 a4 a5 a6 s a8 a9 a10) (fun i s => s = cx_N i) 8 0 (fun _ => 0) (by omega) cx_N0
    (fun n s h => by subst h; exact pk_le 8 8 (fun _ => hp) (fun z => absurd z (by omega)))
    (fun n i s hi h hw => by subst h; exact pk_le 8 i (fun z => absurd z (by omega)) (fun _ => ⟨pk_in i 8 hi, nm_e (nm_r (nI_1 i) (hw _ (cx_Nu (by omega))))⟩))
theorem cx_i149 {post : St2 → Prop} {mc ms kc ks : Nat} {c l k nk lc : Int32} {a1 a2 a3 a5 a6 a8 a9 a10 : Nat → Int32} (hp : post (c, l, k, nk, lc, a1, a2, a3, cx_N 4, a5, a6, cx_N 8, a8, a9, a10)) : ∃ n, wX_init_149 post mc ms kc ks c l k nk lc n 0 a1 a2 a3 (fun _ => 0) a5 a6 (fun _ => 0) a8 a9 a10 :=
  pk_loop (fun n i s => wX_init_149 post mc ms kc ks c l k nk lc n (nI i) a1 a2 a3 s a5 a6 (fun _ => 0) a8 a9 a10) (fun i s => s = cx_N i) 4 0 (fun _ => 0) (by omega) cx_N0
    (fun n s h => by subst h; exact pk_le 4 4 (fun _ => cx_i169 hp) (fun z => absurd z (by omega)))
    (fun n i s hi h hw => by subst h; exact pk_le 4 i (fun z => absurd z (by omega)) (fun _ => ⟨pk_in i 4 hi, nm_e (nm_r (nI_1 i) (hw _ (cx_Nu (by omega))))⟩))
theorem cx_i128 {post : St2 → Prop} {mc ms kc ks : Nat} {c l k nk lc : Int32} {a1 a3 a5 a6 a8 a9 a10 : Nat → Int32} (hp : post (c, l, k, nk, lc, a1, cx_N 32, a3, cx_N 4, a5, a6, cx_N 8, a8, a9, a10)) : ∃ n, wX_init_128 post mc ms kc ks c l k nk lc n 0 a1 (fun _ => 0) a3 (fun _ => 0) a5 a6 (fun _ => 0) a8 a9 a10 :=
  pk_loop (fun n i s => wX_init_128 post mc ms kc ks c l k nk lc n (nI i) a1 s a3 (fun _ => 0) a5 a6 (fun _ => 0) a8 a9 a10) (fun i s => s = cx_N i) 32 0 (fun _ => 0) (by omega) cx_N0
    (fun n s h => by subst h; exact pk_le 32 32 (fun _ => cx_i149 hp) (fun z => absurd z (by omega)))
    (fun n i s hi h hw => by subst h; exact pk_le 32 i (fun z => absurd z (by omega)) (fun _ => ⟨pk_in i 32 hi, nm_e (nm_r (nI_1 i) (hw _ (cx_Nu (by omega))))⟩))
theorem cx_init {post : St2 → Prop} {mc ms : Nat} (hc : 10 ≤ mc) (hs : 192 ≤ ms) (hp : post (0, 0, 1, 0, 1, fun _ => 0, cx_N 32, fun _ => 0, cx_N 4, fun _ => 0, fun _ => 0, cx_N 8, fun _ => 0, fun _ => 0, fun _ => 0)) : wpX_init post mc ms (0, 0, 0, 0, 0) 1 1 := by
  unfold wpX_init
  dsimp only
  refine ⟨by omega, by omega, by omega, by omega, by omega, by omega, by omega, by omega, by omega, by omega, by omega, by omega, by omega, by omega, by omega, by omega, by omega, by omega, by omega, by omega, ?_⟩
  refine br_t (by decide) (br_t (by decide) ?_)
  exact br_t (by decide) (br_t (by decide) (cx_i128 hp))
section
variable {c l : Int32} {a1 a2 a3 a4 a5 a6 a7 a8 a9 a10 : Nat → Int32}
/-! forget, with one kept translation -/
theorem cx_fgH {post : St2 → Prop} {e : Int32} (h : a4 0 = e) (hp : post (c, l, 1, 0, 1, a1, a2, a3, upd a4 0 (-1), a5, a6, a7, a8, a9, a10)) : wpX_forget post (c, l, 1, 0, 1, a1, a2, a3, a4, a5, a6, a7, a8, a9, a10) e :=
  ⟨2, br_f (by decide) ⟨cx_i0, br_t h ⟨cx_i0, nm_e (nm_e (br_t (by decide) hp))⟩⟩⟩
theorem cx_fgM {post : St2 → Prop} {e : Int32} (h : ¬ a4 0 = e) (hp : post (c, l, 1, 0, 1, a1, a2, a3, a4, a5, a6, a7, a8, a9, a10)) : wpX_forget post (c, l, 1, 0, 1, a1, a2, a3, a4, a5, a6, a7, a8, a9, a10) e :=
  ⟨2, br_f (by decide) ⟨cx_i0, br_f h (nm_e (br_t (by decide) hp))⟩⟩
/-! map -/
theorem cx_map {post : Int32 → St2 → Prop} {s pg E f : Int32} {e : Nat} (hE : 8 * s + pg = E) (hk : E.toNatClampNeg = e) (hin : vp_in E 32) (h1 : ¬ s < 0) (h2 : ¬ 3 < s) (h3 : ¬ pg < 0) (h4 : ¬ 7 < pg) (h5 : ¬ f < 0) (h6 : f ≤ 7) (hf : f.toInt8.toInt32 = f)
    (hn : ¬ 0 ≤ a2 e) (ha : ¬ a4 0 = E) (hp : post 0 (c, l, 1, 0, 1, a1, upd a2 e f, upd a3 e 1, a4, a5, a6, a7, a8, a9, a10)) : wpX_map post (c, l, 1, 0, 1, a1, a2, a3, a4, a5, a6, a7, a8, a9, a10) s pg f 1 := by
  subst hk
  unfold wpX_map
  dsimp only
  refine br_f h1 (br_f h2 (br_f h3 (br_f h4 (br_f (by decide) (br_f h5 (br_t h6 (nm_r hE ⟨hin, br_f hn ?_⟩)))))))
  exact ⟨hin, nm_r (e' := upd a2 E.toNatClampNeg f) (by rw [hf]) ⟨hin, nm_r (e' := upd a3 E.toNatClampNeg 1) (by rfl) (cx_fgM ha hp)⟩⟩
/-! translation, with one kept translation -/
theorem cx_trH {post : Int32 → St2 → Prop} {p : Int32} (h : a4 0 = 8 * c + p) (hp : post 0 (c, l, 1, 0, 1, a1, a2, a3, a4, a5, a6, a7, a8, a9, a10)) : wpX_translation post (c, l, 1, 0, 1, a1, a2, a3, a4, a5, a6, a7, a8, a9, a10) p :=
  nm_e ⟨1, br_f (by decide) ⟨cx_i0, br_t h hp⟩⟩
theorem cx_trM {post : Int32 → St2 → Prop} {p E y5 y6 : Int32} {e : Nat} (hE : 8 * c + p = E) (hk : E.toNatClampNeg = e) (hin : vp_in E 32) (h : ¬ a4 0 = E) (h0 : 0 ≤ a2 e) (h4 : E.toInt8.toInt32 = E) (h5 : vp_nar .byte (a2 e) = y5) (h6 : vp_nar .boolean (a3 e) = y6)
    (hp : post 0 (c, l, 1, 0, 1, a1, a2, a3, upd a4 0 E, upd a5 0 y5, upd a6 0 y6, a7, a8, a9, a10)) : wpX_translation post (c, l, 1, 0, 1, a1, a2, a3, a4, a5, a6, a7, a8, a9, a10) p := by
  subst hk
  refine nm_r hE ⟨2, br_f (by decide) ⟨cx_i0, br_f h (nm_e (br_t (by decide) ⟨hin, br_t h0 (br_t (by decide) ?_)⟩))⟩⟩
  exact ⟨cx_i0, nm_r (e' := upd a4 0 E) (by rw [h4]; rfl) ⟨hin, cx_i0, nm_r (e' := upd a5 0 y5) (by rw [h5]; rfl) ⟨hin, cx_i0, nm_r (e' := upd a6 0 y6) (by rw [h6]; rfl) hp⟩⟩⟩
/-! lineWith, with one line a way -/
theorem cx_lw0 {post : Int32 → Prop} {b : Nat} (hb : b < 64) (h : a7 0 = nI b) (hp : post 0) : wpX_lineWith post (c, l, 1, 0, 1, a1, a2, a3, a4, a5, a6, a7, a8, a9, a10) (nI b) :=
  ⟨by decide, nm_r (cx_rem hb) ⟨cx_i08, br_t h hp⟩⟩
theorem cx_lw4 {post : Int32 → Prop} {b : Nat} (hb : b < 64) (h0 : ¬ a7 0 = nI b) (h : a7 4 = nI b) (hp : post 4) : wpX_lineWith post (c, l, 1, 0, 1, a1, a2, a3, a4, a5, a6, a7, a8, a9, a10) (nI b) :=
  ⟨by decide, nm_r (cx_rem hb) ⟨cx_i08, br_f h0 ⟨cx_i48, br_t h hp⟩⟩⟩
theorem cx_lwN {post : Int32 → Prop} {b : Nat} (hb : b < 64) (h0 : ¬ a7 0 = nI b) (h : ¬ a7 4 = nI b) (hp : post (-1)) : wpX_lineWith post (c, l, 1, 0, 1, a1, a2, a3, a4, a5, a6, a7, a8, a9, a10) (nI b) :=
  ⟨by decide, nm_r (cx_rem hb) ⟨cx_i08, br_f h0 ⟨cx_i48, br_f h hp⟩⟩⟩
/-! evict of an empty line -/
theorem cx_ev {post : St2 → Prop} {z : Nat} (hz : z < 8) (h : a7 z < 0) (hp : post (c, l, 1, 0, 1, a1, a2, a3, a4, a5, a6, upd a7 z (-1), upd a8 z 0, a9, a10)) : wpX_evict post (c, l, 1, 0, 1, a1, a2, a3, a4, a5, a6, a7, a8, a9, a10) (nI z) := by
  have hc : (nI z).toNatClampNeg = z := nI_clamp (by omega)
  exact ⟨pk_in z 8 hz, br_t (by rw [hc]; exact h) ⟨pk_in z 8 hz, nm_r (e' := upd a7 z (-1)) (by rw [hc]) ⟨pk_in z 8 hz, nm_r (e' := upd a8 z 0) (by rw [hc]) hp⟩⟩⟩
/-! bringIn -/
theorem cx_cpl {post : Int32 → St2 → Prop} {b z : Nat} {x : Int32} (hb : b < 16) (hz : z < 8) (hp : wX_bringIn_84 post x (nI z) c l 1 0 1 a1 a2 a3 a4 a5 a6 a7 a8 (cx_cp a9 a1 z b 4) a10) : ∃ n, wX_bringIn_50 post (nI b) x (nI z) c l 1 0 1 n 0 a1 a2 a3 a4 a5 a6 a7 a8 a9 a10 :=
  pk_loop (fun n i s => wX_bringIn_50 post (nI b) x (nI z) c l 1 0 1 n (nI i) a1 a2 a3 a4 a5 a6 a7 a8 s a10) (fun i s => s = cx_cp a9 a1 z b i) 4 0 a9 (by omega) cx_cp0
    (fun n s h => by subst h; exact pk_le 4 4 (fun _ => hp) (fun z => absurd z (by omega)))
    (fun n i s hi h hw => by
      subst h
      have e1 : (4 * nI b + nI i).toNatClampNeg = 4 * b + i := pk_cl (4 * b + i) (cx_ix4 b i)
      have e2 : (4 * nI z + nI i).toNatClampNeg = 4 * z + i := pk_cl (4 * z + i) (cx_ix4 z i)
      exact pk_le 4 i (fun z => absurd z (by omega)) (fun _ => ⟨pk_in (4 * b + i) 64 (by omega) (cx_ix4 b i), pk_in (4 * z + i) 32 (by omega) (cx_ix4 z i), nm_r (e' := cx_cp a9 a1 z b (i + 1)) (by rw [e1, e2]; exact cx_cpu) (nm_r (nI_1 i) (hw _ rfl))⟩))
theorem cx_bi0 {post : Int32 → St2 → Prop} {b : Nat} (hb : b < 16) (h : a7 0 = nI b) (hp : post 0 (c, l, 1, 0, 1, a1, a2, a3, a4, a5, a6, a7, a8, a9, upd a10 0 0)) : wpX_bringIn post (c, l, 1, 0, 1, a1, a2, a3, a4, a5, a6, a7, a8, a9, a10) (nI b) := by
  refine ⟨by decide, nm_r (cx_rem (by omega)) (cx_lw0 (by omega) h (br_t (by decide) ⟨cx_i0, nm_r (e' := upd a10 0 0) (by rfl) hp⟩))⟩
theorem cx_bi4 {post : Int32 → St2 → Prop} {b : Nat} (hb : b < 16) (h0 : ¬ a7 0 = nI b) (h : a7 4 = nI b) (hp : post 4 (c, l, 1, 0, 1, a1, a2, a3, a4, a5, a6, a7, a8, a9, upd a10 0 1)) : wpX_bringIn post (c, l, 1, 0, 1, a1, a2, a3, a4, a5, a6, a7, a8, a9, a10) (nI b) := by
  refine ⟨by decide, nm_r (cx_rem (by omega)) (cx_lw4 (by omega) h0 h (br_t (by decide) ⟨cx_i0, nm_r (e' := upd a10 0 1) (by rfl) hp⟩))⟩
theorem cx_b33 {post : Int32 → St2 → Prop} {b z : Nat} {y : Int32} (hb : b < 16) (hz : z < 8) (hy : (nI z >>> ((2 : Int32) &&& 31)).toInt8.toInt32 = y) (h7 : a7 z < 0) (hp : post (nI z) (c, l, 1, 0, 1, a1, a2, a3, a4, a5, a6, upd (upd a7 z (-1)) z (nI b), upd a8 z 0, cx_cp a9 a1 z b 4, upd a10 0 y)) : wX_bringIn_33 post (nI b) 0 (nI z) c l 1 0 1 a1 a2 a3 a4 a5 a6 a7 a8 a9 a10 := by
  have hc : (nI z).toNatClampNeg = z := nI_clamp (by omega)
  unfold wX_bringIn_33
  refine cx_ev hz h7 ⟨pk_in z 8 hz, nm_r (e' := upd (upd a7 z (-1)) z (nI b)) (by rw [hc, cx_b8 b (by omega)]) ?_⟩
  exact cx_cpl hb hz ⟨cx_i0, nm_r (e' := upd a10 0 y) (by rw [hy]; rfl) hp⟩
theorem cx_bm4 {post : Int32 → St2 → Prop} {b : Nat} (hb : b < 16) (h0 : ¬ a7 0 = nI b) (h4 : ¬ a7 4 = nI b) (ha : a10 0 = 0) (h7 : a7 4 < 0) (hp : post 4 (c, l, 1, 0, 1, a1, a2, a3, a4, a5, a6, upd (upd a7 4 (-1)) 4 (nI b), upd a8 4 0, cx_cp a9 a1 4 b 4, upd a10 0 1)) : wpX_bringIn post (c, l, 1, 0, 1, a1, a2, a3, a4, a5, a6, a7, a8, a9, a10) (nI b) := by
  refine ⟨by decide, nm_r (cx_rem (by omega)) (cx_lwN (by omega) h0 h4 (br_f (by decide) ⟨cx_i0, br_t ha ?_⟩))⟩
  exact cx_b33 (z := 4) hb (by decide) (by decide) h7 hp
theorem cx_bm0 {post : Int32 → St2 → Prop} {b : Nat} (hb : b < 16) (h0 : ¬ a7 0 = nI b) (h4 : ¬ a7 4 = nI b) (ha : ¬ a10 0 = 0) (h7 : a7 0 < 0) (hp : post 0 (c, l, 1, 0, 1, a1, a2, a3, a4, a5, a6, upd (upd a7 0 (-1)) 0 (nI b), upd a8 0 0, cx_cp a9 a1 0 b 4, upd a10 0 0)) : wpX_bringIn post (c, l, 1, 0, 1, a1, a2, a3, a4, a5, a6, a7, a8, a9, a10) (nI b) := by
  refine ⟨by decide, nm_r (cx_rem (by omega)) (cx_lwN (by omega) h0 h4 (br_f (by decide) ⟨cx_i0, br_f ha ?_⟩))⟩
  exact cx_b33 (z := 0) hb (by decide) (by decide) h7 hp
end
end
section
section
variable {c l : Int32} {a1 a2 a3 a4 a5 a6 a7 a8 a9 a10 b4 b5 b6 b7 b8 b9 b10 : Nat → Int32}
theorem cx_e1 {A : Nat} (hA : A < 64) : nI A >>> ((3 : Int32) &&& 31) = nI (A / 8) := pk_shrN (by omega) _ 3 (by decide)
theorem cx_e3 {A : Nat} (hA : A < 64) : nI A >>> ((2 : Int32) &&& 31) = nI (A / 4) := pk_shrN (by omega) _ 2 (by decide)
theorem cx_e2 {A f : Nat} {y : Int32} (hy : y = nI f) (hA : A < 64) : 8 * y + (nI A &&& 7) = nI (8 * f + A % 8) := by
  subst hy
  rw [pk_andN (show A < 2 ^ 32 by omega) 3 (by decide)]
  exact cx_ix8 f (A % 8)
theorem cx_e4 {W z m : Nat} (hW : W < 64) (hm : 4 * z + W % 4 = m) : 4 * nI z + (nI W &&& 3) = nI m := by
  subst hm
  rw [pk_andN (show W < 2 ^ 32 by omega) 2 (by decide)]
  exact cx_ix4 z (W % 4)
/-! change: a store, an add, a page that is read only -/
theorem cx_chg {post : Int32 → St2 → Prop} {x v more val : Int32} {A P f b z m : Nat} (hx : x = nI A) (hA : A < 64) (hP : A / 8 = P) (hf8 : f < 8) (hz : z < 8) (hb : (8 * f + A % 8) / 4 = b) (hm : 4 * z + A % 4 = m)
    (ht : ∀ φ : Int32 → St2 → Prop, φ 0 (c, l, 1, 0, 1, a1, a2, a3, b4, b5, b6, a7, a8, a9, a10) → wpX_translation φ (c, l, 1, 0, 1, a1, a2, a3, a4, a5, a6, a7, a8, a9, a10) (nI P)) (hf : b5 0 = nI f) (hw : ¬ b6 0 = 0)
    (hi : ∀ ψ : Int32 → St2 → Prop, ψ (nI z) (c, l, 1, 0, 1, a1, a2, a3, b4, b5, b6, b7, b8, b9, b10) → wpX_bringIn ψ (c, l, 1, 0, 1, a1, a2, a3, b4, b5, b6, a7, a8, a9, a10) (nI b))
    (hv : (more = 0 ∧ val = v) ∨ (¬ more = 0 ∧ val = b9 m + v))
    (hp : post 0 (c, l, 1, 0, 1, a1, a2, a3, b4, b5, b6, b7, upd b8 z 1, upd b9 m val, b10)) : wpX_change post (c, l, 1, 0, 1, a1, a2, a3, a4, a5, a6, a7, a8, a9, a10) x v more := by
  subst hx hP
  have hW : 8 * f + A % 8 < 64 := by omega
  have e4 : 4 * nI z + (nI (8 * f + A % 8) &&& 3) = nI m := cx_e4 hW (by omega)
  have hm3 : m < 32 := by omega
  have c1 : (nI m).toNatClampNeg = m := nI_clamp (by omega)
  have c2 : (nI z).toNatClampNeg = z := nI_clamp (by omega)
  unfold wpX_change
  dsimp only
  refine br_f (nI_pos (by omega)) (br_t (nI_le (b := 63) (by omega) (by decide)) ?_)
  rw [cx_e1 hA]
  refine ht _ ?_
  refine br_t (by decide) ⟨cx_i0, br_f hw ⟨cx_i0, nm_r (cx_e2 hf hA) ?_⟩⟩
  rw [cx_e3 hW, hb]
  refine hi _ ?_
  refine nm_r e4 ?_
  have fin : wX_change_103 post (nI z) val (nI m) c l 1 0 1 a1 a2 a3 b4 b5 b6 b7 b8 b9 b10 :=
    ⟨pk_in m 32 hm3, nm_r (e' := upd b9 m val) (by rw [c1]) ⟨pk_in z 8 hz, nm_r (e' := upd b8 z 1) (by rw [c2]) hp⟩⟩
  rcases hv with ⟨h0, h1⟩ | ⟨h0, h1⟩
  · rw [h1] at fin
    exact br_t h0 fin
  · rw [h1] at fin
    refine br_f h0 ⟨pk_in m 32 hm3, ?_⟩
    rw [c1]
    exact fin
theorem cx_ro {post : Int32 → St2 → Prop} {x v more : Int32} {A P : Nat} (hx : x = nI A) (hA : A < 64) (hP : A / 8 = P)
    (ht : ∀ φ : Int32 → St2 → Prop, φ 0 (c, l, 1, 0, 1, a1, a2, a3, b4, b5, b6, a7, a8, a9, a10) → wpX_translation φ (c, l, 1, 0, 1, a1, a2, a3, a4, a5, a6, a7, a8, a9, a10) (nI P)) (hw : b6 0 = 0)
    (hp : post (-3) (c, l, 1, 0, 1, a1, a2, a3, b4, b5, b6, a7, a8, a9, a10)) : wpX_change post (c, l, 1, 0, 1, a1, a2, a3, a4, a5, a6, a7, a8, a9, a10) x v more := by
  subst hx hP
  unfold wpX_change
  dsimp only
  refine br_f (nI_pos (by omega)) (br_t (nI_le (b := 63) (by omega) (by decide)) ?_)
  rw [cx_e1 hA]
  refine ht _ ?_
  exact br_t (by decide) ⟨cx_i0, br_t hw hp⟩
theorem cx_store {post : Int32 → St2 → Prop} {x v : Int32} (h : wpX_change post (c, l, 1, 0, 1, a1, a2, a3, a4, a5, a6, a7, a8, a9, a10) x v 0) : wpX_store post (c, l, 1, 0, 1, a1, a2, a3, a4, a5, a6, a7, a8, a9, a10) x v := by
  unfold wpX_store
  exact h
theorem cx_add {post : Int32 → St2 → Prop} {x v : Int32} (h : wpX_change post (c, l, 1, 0, 1, a1, a2, a3, a4, a5, a6, a7, a8, a9, a10) x v 1) : wpX_add post (c, l, 1, 0, 1, a1, a2, a3, a4, a5, a6, a7, a8, a9, a10) x v := by
  unfold wpX_add
  exact h
theorem cx_load {post : Int32 → St2 → Prop} {x : Int32} {A P f b z m : Nat} (hx : x = nI A) (hA : A < 64) (hP : A / 8 = P) (hf8 : f < 8) (hz : z < 8) (hb : (8 * f + A % 8) / 4 = b) (hm : 4 * z + A % 4 = m)
    (ht : ∀ φ : Int32 → St2 → Prop, φ 0 (c, l, 1, 0, 1, a1, a2, a3, b4, b5, b6, a7, a8, a9, a10) → wpX_translation φ (c, l, 1, 0, 1, a1, a2, a3, a4, a5, a6, a7, a8, a9, a10) (nI P)) (hf : b5 0 = nI f)
    (hi : ∀ ψ : Int32 → St2 → Prop, ψ (nI z) (c, l, 1, 0, 1, a1, a2, a3, b4, b5, b6, b7, b8, b9, b10) → wpX_bringIn ψ (c, l, 1, 0, 1, a1, a2, a3, b4, b5, b6, a7, a8, a9, a10) (nI b))
    (hp : post 0 (c, b9 m, 1, 0, 1, a1, a2, a3, b4, b5, b6, b7, b8, b9, b10)) : wpX_load post (c, l, 1, 0, 1, a1, a2, a3, a4, a5, a6, a7, a8, a9, a10) x := by
  subst hx hP
  have hW : 8 * f + A % 8 < 64 := by omega
  have e4 : 4 * nI z + (nI (8 * f + A % 8) &&& 3) = nI m := cx_e4 hW (by omega)
  have c1 : (4 * nI z + (nI (8 * f + A % 8) &&& 3)).toNatClampNeg = m := pk_cl m e4
  unfold wpX_load
  dsimp only
  refine br_f (nI_pos (by omega)) (br_t (nI_le (b := 63) (by omega) (by decide)) ?_)
  rw [cx_e1 hA]
  refine ht _ ?_
  refine br_t (by decide) ⟨cx_i0, nm_r (cx_e2 hf hA) ?_⟩
  rw [cx_e3 hW, hb]
  refine hi _ ?_
  exact ⟨pk_in m 32 (by omega) e4, nm_r (e' := b9 m) (by rw [c1]) hp⟩
theorem cx_dr4 {post : Int32 → Prop} {x : Int32} {W b m : Nat} (hx : x = nI W) (hW : W < 64) (hb : W / 4 = b) (hm : 16 + W % 4 = m) (h0 : ¬ a7 0 = nI b) (h4 : a7 4 = nI b) (hp : post (a9 m)) : wpX_deviceRead post (c, l, 1, 0, 1, a1, a2, a3, a4, a5, a6, a7, a8, a9, a10) x := by
  subst hx hb
  have e4 : 4 * 4 + (nI W &&& 3) = nI m := cx_e4 (z := 4) hW hm
  have c1 : (4 * 4 + (nI W &&& 3)).toNatClampNeg = m := pk_cl m e4
  unfold wpX_deviceRead
  dsimp only
  refine br_f (nI_pos (by omega)) (br_t (nI_le (b := 63) (by omega) (by decide)) ?_)
  rw [cx_e3 hW]
  refine cx_lw4 (by omega) h0 h4 (br_f (by decide) ⟨pk_in m 32 (by omega) e4, ?_⟩)
  rw [c1]
  exact hp
theorem cx_enter {post : Int32 → St2 → Prop} (hp : post 0 (1, l, 1, 0, 1, a1, a2, a3, a4, a5, a6, a7, a8, a9, a10)) : wpX_enter post (c, l, 1, 0, 1, a1, a2, a3, a4, a5, a6, a7, a8, a9, a10) 1 := br_f (by decide) (br_t (by decide) hp)
/-! protect: cnt, A3, A4 are what the loop holds ahead of entry i -/
theorem cx_prot {post : Int32 → St2 → Prop} {x : Int32} (cnt : Nat → Int32) (A3 A4 : Nat → Nat → Int32) (hx0 : ¬ x < 0) (hx7 : x ≤ 7) (hc : cnt 0 = 0) (h3 : A3 0 = a3) (h4 : A4 0 = a4)
    (hs : ∀ i, i < 32 → (¬ a2 i = x ∧ cnt (i + 1) = cnt i ∧ A3 (i + 1) = A3 i ∧ A4 (i + 1) = A4 i) ∨ (a2 i = x ∧ ¬ A3 i i = 0 ∧ cnt (i + 1) = cnt i + 1 ∧ A3 (i + 1) = upd (A3 i) i 0 ∧ ((A4 i 0 = nI i ∧ A4 (i + 1) = upd (A4 i) 0 (-1)) ∨ (¬ A4 i 0 = nI i ∧ A4 (i + 1) = A4 i))))
    (hp : post (cnt 32) (c, l, 1, 0, 1, a1, a2, A3 32, A4 32, a5, a6, a7, a8, a9, a10)) : wpX_protect post (c, l, 1, 0, 1, a1, a2, a3, a4, a5, a6, a7, a8, a9, a10) x := by
  have L : ∃ n, wX_protect_16 post x n (cnt 0) (nI 0) c l 1 0 1 a1 a2 (A3 0) (A4 0) a5 a6 a7 a8 a9 a10 :=
    pk_loop (σ := Unit) (fun n i _ => wX_protect_16 post x n (cnt i) (nI i) c l 1 0 1 a1 a2 (A3 i) (A4 i) a5 a6 a7 a8 a9 a10) (fun _ _ => True) 32 0 () (by omega) trivial
      (fun n _ _ => pk_le 32 32 (fun _ => hp) (fun z => absurd z (by omega)))
      (fun n i _ hi _ hw => by
        have hw' : wX_protect_16 post x n (cnt (i + 1)) (nI (i + 1)) c l 1 0 1 a1 a2 (A3 (i + 1)) (A4 (i + 1)) a5 a6 a7 a8 a9 a10 := hw () trivial
        have ci : (nI i).toNatClampNeg = i := nI_clamp (by omega)
        show wX_protect_16 post x (n + 1) (cnt i) (nI i) c l 1 0 1 a1 a2 (A3 i) (A4 i) a5 a6 a7 a8 a9 a10
        refine pk_le 32 i (fun z => absurd z (by omega)) (fun _ => ⟨pk_in i 32 hi, ?_⟩)
        rcases hs i hi with ⟨g1, g2, g3, g4⟩ | ⟨g1, g2, g3, g4, g5⟩
        · rw [g2, g3, g4] at hw'
          exact br_f (by rw [ci]; exact g1) (nm_r (nI_1 i) hw')
        · rw [g3, g4] at hw'
          refine br_t (by rw [ci]; exact g1) ⟨pk_in i 32 hi, br_f (by rw [ci]; exact g2) ⟨pk_in i 32 hi, nm_r (e' := upd (A3 i) i 0) (by rw [ci]) ?_⟩⟩
          rcases g5 with ⟨g6, g7⟩ | ⟨g6, g7⟩
          · rw [g7] at hw'
            exact cx_fgH g6 (nm_e (nm_r (nI_1 i) hw'))
          · rw [g7] at hw'
            exact cx_fgM g6 (nm_e (nm_r (nI_1 i) hw')))
  rw [hc, h3, h4] at L
  exact br_f hx0 (br_t hx7 L)
end
end
section
theorem cx_3w {α : Type} {x y z : α} {i : Nat} (h2 : i ≠ 2) (h13 : i ≠ 13) : (if i + 1 ≤ 2 then x else if i + 1 ≤ 13 then y else z) = (if i ≤ 2 then x else if i ≤ 13 then y else z) := by
  by_cases a : i + 1 ≤ 2
  · rw [if_pos a, if_pos (show i ≤ 2 by omega)]
  · rw [if_neg a, if_neg (show ¬ i ≤ 2 by omega)]
    by_cases b : i + 1 ≤ 13
    · rw [if_pos b, if_pos (show i ≤ 13 by omega)]
    · rw [if_neg b, if_neg (show ¬ i ≤ 13 by omega)]
theorem cx_2w {α : Type} {x y : α} {i k : Nat} (h : i ≠ k) : (if i + 1 ≤ k then x else y) = (if i ≤ k then x else y) := by
  by_cases a : i + 1 ≤ k
  · rw [if_pos a, if_pos (show i ≤ k by omega)]
  · rw [if_neg a, if_neg (show ¬ i ≤ k by omega)]
section
variable {c l : Int32} {a1 a2 a3 a4 a5 a6 a7 a8 a9 a10 : Nat → Int32}
/-- protect where entries 2 and 13 name the frame, and 13 is the one that is kept -/
theorem cx_protS {post : Int32 → St2 → Prop} {p : Nat} (hp8 : p < 8) (h2 : a2 2 = nI p) (h13 : a2 13 = nI p) (ho : ∀ i, i < 32 → i ≠ 2 → i ≠ 13 → ¬ a2 i = nI p) (g2 : ¬ a3 2 = 0) (g13 : ¬ a3 13 = 0) (g4 : a4 0 = 13)
    (hp : post 2 (c, l, 1, 0, 1, a1, a2, upd (upd a3 2 0) 13 0, upd a4 0 (-1), a5, a6, a7, a8, a9, a10)) : wpX_protect post (c, l, 1, 0, 1, a1, a2, a3, a4, a5, a6, a7, a8, a9, a10) (nI p) := by
  refine cx_prot (fun i => if i ≤ 2 then 0 else if i ≤ 13 then 1 else 2) (fun i => if i ≤ 2 then a3 else if i ≤ 13 then upd a3 2 0 else upd (upd a3 2 0) 13 0) (fun i => if i ≤ 13 then a4 else upd a4 0 (-1)) (nI_pos (by omega)) (nI_le (b := 7) (by omega) (by decide)) rfl rfl rfl ?_ hp
  intro i hi
  by_cases e2 : i = 2
  · subst e2
    refine Or.inr ⟨h2, g2, by decide, rfl, Or.inr ⟨?_, rfl⟩⟩
    show ¬ a4 0 = nI 2
    rw [g4]
    decide
  · by_cases e13 : i = 13
    · subst e13
      exact Or.inr ⟨h13, g13, by decide, rfl, Or.inl ⟨g4, rfl⟩⟩
    · exact Or.inl ⟨ho i hi e2 e13, cx_3w e2 e13, cx_3w e2 e13, cx_2w e13⟩
/-- protect where entry 2 alone names the frame, and another one is kept -/
theorem cx_protD {post : Int32 → St2 → Prop} {p : Nat} (hp8 : p < 8) (h2 : a2 2 = nI p) (ho : ∀ i, i < 32 → i ≠ 2 → ¬ a2 i = nI p) (g2 : ¬ a3 2 = 0) (g4 : ¬ a4 0 = 2)
    (hp : post 1 (c, l, 1, 0, 1, a1, a2, upd a3 2 0, a4, a5, a6, a7, a8, a9, a10)) : wpX_protect post (c, l, 1, 0, 1, a1, a2, a3, a4, a5, a6, a7, a8, a9, a10) (nI p) := by
  refine cx_prot (fun i => if i ≤ 2 then 0 else 1) (fun i => if i ≤ 2 then a3 else upd a3 2 0) (fun _ => a4) (nI_pos (by omega)) (nI_le (b := 7) (by omega) (by decide)) rfl rfl rfl ?_ hp
  intro i hi
  by_cases e2 : i = 2
  · subst e2
    exact Or.inr ⟨h2, g2, by decide, rfl, Or.inr ⟨g4, rfl⟩⟩
  · exact Or.inl ⟨ho i hi e2, cx_2w e2, cx_2w e2, rfl⟩
end
theorem cx_in2 : vp_in 2 32 := vp_in_iff.mpr (by decide)
theorem cx_in13 : vp_in 13 32 := vp_in_iff.mpr (by decide)
theorem cx_nb {p : Nat} (h : p < 8) : vp_nar .byte (nI p) = nI p := by rw [vp_nar_byte, cx_b8 p (by omega)]
theorem cx_A2o {p q : Nat} (hq : q < 8) (i : Nat) (hi : i < 32) (h2 : i ≠ 2) (h13 : i ≠ 13) {x : Int32} : ¬ upd (upd (cx_N 32) 2 (nI p)) 13 x i = nI q := by
  rw [pk_un h13, pk_un h2]
  unfold cx_N
  rw [if_pos hi]
  exact cx_m1 q (by omega)
theorem cx_law30 {post : Int32 → St0 → Prop} {v w z0 : Int32} {p q t : Nat} (hp8 : p < 8) (hq8 : q < 8) (ht8 : t < 8) (hz : (z0 = 1 ∧ p = q) ∨ (z0 = 0 ∧ ¬ p = q)) (H : post 1 ()) :
    wL_lawOf_30 post 20 300 v w (nI p) (nI q) (nI t) z0 0 0 := by
  have E16 : 16 + nI t = nI (16 + t) := nI_add 16 t
  have E40 : 40 + nI t = nI (40 + t) := nI_add 40 t
  have E8 : 8 * nI p + nI t = nI (8 * p + t) := cx_ix8 p t
  have hb : 2 * p + t / 4 < 16 := by omega
  have hb' : 2 * q + t / 4 < 16 := by omega
  unfold wL_lawOf_30
  refine ⟨by omega, by omega, 10, 192, by omega, by omega, cx_init (by omega) (by omega) ?_⟩
  refine cx_map (E := 2) (e := 2) (by decide) (by decide) cx_in2 (by decide) (by decide) (by decide) (by decide) (nI_pos (by omega)) (nI_le (b := 7) (by omega) (by decide)) (cx_b8 p (by omega)) (by decide) (by decide) ?_
  refine br_t rfl ?_
  refine cx_map (E := 13) (e := 13) (by decide) (by decide) cx_in13 (by decide) (by decide) (by decide) (by decide) (nI_pos (by omega)) (nI_le (b := 7) (by omega) (by decide)) (cx_b8 q (by omega)) (show ¬ 0 ≤ cx_N 32 13 by decide) (by decide) ?_
  refine br_t rfl ?_
  refine cx_store (cx_chg (A := 16 + t) (P := 2) (f := p) (b := 2 * p + t / 4) (z := 4) (m := 16 + t % 4) (val := v) E16 (by omega) (by omega) hp8 (by decide) (by omega) (by omega)
    (fun φ h => cx_trM (E := 2) (e := 2) (y5 := nI p) (y6 := 1) (by decide) (by decide) cx_in2 (by decide) (nI_pos' (show p < 2 ^ 31 by omega)) (by decide) (cx_nb hp8) (by rfl) h) pk_us (show ¬ (1 : Int32) = 0 by decide)
    (fun ψ h => cx_bm4 hb (cx_m1 _ (by omega)) (cx_m1 _ (by omega)) rfl (show (-1 : Int32) < 0 by decide) h) (Or.inl ⟨rfl, rfl⟩) ?_)
  refine br_t rfl ?_
  refine cx_enter ?_
  refine br_t rfl ?_
  rcases hz with ⟨hz, e⟩ | ⟨hz, e⟩
  · subst hz e
    refine cx_add (cx_chg (A := 40 + t) (P := 5) (f := p) (b := 2 * p + t / 4) (z := 4) (m := 16 + t % 4) (val := v + w) E40 (by omega) (by omega) hp8 (by decide) (by omega) (by omega)
      (fun φ h => cx_trM (E := 13) (e := 13) (y5 := nI p) (y6 := 1) (by decide) (by decide) cx_in13 (show ¬ (2 : Int32) = 13 by decide) (nI_pos' (show p < 2 ^ 31 by omega)) (by decide) (cx_nb hp8) (by rfl) h) pk_us (show ¬ (1 : Int32) = 0 by decide)
      (fun ψ h => cx_bi4 hb (cx_m1 _ (by omega)) pk_us h) (Or.inr ⟨by decide, by rw [pk_us]⟩) ?_)
    refine br_t rfl ?_
    refine cx_dr4 (W := 8 * p + t) (b := 2 * p + t / 4) (m := 16 + t % 4) E8 (by omega) (by omega) (by omega) (cx_m1 _ (by omega)) pk_us ?_
    refine br_f (by decide) ?_
    refine br_t pk_us ?_
    refine cx_protS hp8 rfl pk_us (fun i hi h2 h13 => cx_A2o hp8 i hi h2 h13) (show ¬ (1 : Int32) = 0 by decide) (show ¬ (1 : Int32) = 0 by decide) pk_us ?_
    refine br_f (by decide) ?_
    refine br_t rfl ?_
    refine cx_store (cx_ro (A := 40 + t) (P := 5) E40 (by omega) (by omega)
      (fun φ h => cx_trM (E := 13) (e := 13) (y5 := nI p) (y6 := 0) (by decide) (by decide) cx_in13 (show ¬ (-1 : Int32) = 13 by decide) (nI_pos' (show p < 2 ^ 31 by omega)) (by decide) (cx_nb hp8) (by rfl) h) pk_us ?_)
    refine br_f (by decide) ?_
    refine br_t rfl ?_
    refine cx_load (A := 40 + t) (P := 5) (f := p) (b := 2 * p + t / 4) (z := 4) (m := 16 + t % 4) E40 (by omega) (by omega) hp8 (by decide) (by omega) (by omega)
      (fun φ h => cx_trH (show (13 : Int32) = 8 * 1 + nI 5 by decide) h) pk_us (fun ψ h => cx_bi4 hb (cx_m1 _ (by omega)) pk_us h) ?_
    refine br_t rfl ?_
    exact br_f (show ¬ (1 : Int32) = 0 by decide) (br_t pk_us H)
  · subst hz
    have hne : ¬ nI (2 * p + t / 4) = nI (2 * q + t / 4) := fun h => e (by have := (nI_eq (by omega) (by omega)).mp h; omega)
    have hne' : ¬ nI (2 * q + t / 4) = nI (2 * p + t / 4) := fun h => hne h.symm
    have hpq : ¬ nI q = nI p := fun h => e (by have := (nI_eq (by omega) (by omega)).mp h; omega)
    refine cx_add (cx_chg (A := 40 + t) (P := 5) (f := q) (b := 2 * q + t / 4) (z := 0) (m := t % 4) (val := w) E40 (by omega) (by omega) hq8 (by decide) (by omega) (by omega)
      (fun φ h => cx_trM (E := 13) (e := 13) (y5 := nI q) (y6 := 1) (by decide) (by decide) cx_in13 (show ¬ (2 : Int32) = 13 by decide) (nI_pos' (show q < 2 ^ 31 by omega)) (by decide) (cx_nb hq8) (by rfl) h) pk_us (show ¬ (1 : Int32) = 0 by decide)
      (fun ψ h => cx_bm0 hb' (cx_m1 _ (by omega)) hne (show ¬ (1 : Int32) = 0 by decide) (show (-1 : Int32) < 0 by decide) h) (Or.inr ⟨by decide, by rw [cx_cpi (by omega)]; exact (Int32.zero_add w).symm⟩) ?_)
    refine br_t rfl ?_
    refine cx_dr4 (W := 8 * p + t) (b := 2 * p + t / 4) (m := 16 + t % 4) E8 (by omega) (by omega) (by omega) hne' rfl ?_
    refine br_t rfl ?_
    refine br_t (by rw [pk_un (by omega), cx_cpo (by omega), pk_us]) ?_
    refine cx_protD hp8 rfl (fun i hi h2 => ?_) (show ¬ (1 : Int32) = 0 by decide) (show ¬ (13 : Int32) = 2 by decide) ?_
    · by_cases h13 : i = 13
      · subst h13
        exact hpq
      · exact cx_A2o hp8 i hi h2 h13
    refine br_t rfl ?_
    refine br_t rfl ?_
    refine cx_store (cx_chg (A := 40 + t) (P := 5) (f := q) (b := 2 * q + t / 4) (z := 0) (m := t % 4) (val := 5) E40 (by omega) (by omega) hq8 (by decide) (by omega) (by omega)
      (fun φ h => cx_trH (show (13 : Int32) = 8 * 1 + nI 5 by decide) h) pk_us (show ¬ (1 : Int32) = 0 by decide)
      (fun ψ h => cx_bi0 hb' pk_us h) (Or.inl ⟨rfl, rfl⟩) ?_)
    refine br_t rfl ?_
    refine br_t rfl ?_
    refine cx_load (A := 40 + t) (P := 5) (f := q) (b := 2 * q + t / 4) (z := 0) (m := t % 4) E40 (by omega) (by omega) hq8 (by decide) (by omega) (by omega)
      (fun φ h => cx_trH (show (13 : Int32) = 8 * 1 + nI 5 by decide) h) pk_us (fun ψ h => cx_bi0 hb' pk_us h) ?_
    refine br_t rfl ?_
    exact br_t rfl (br_t pk_us H)
end
section
theorem cx_cell {post : Int32 → Prop} {L : Nat} {xs : Nat → Int32} {u : St0} {p1 : Int32} (hL : L ≤ 5) (k : Nat) (hk : p1 = nI k) (hk5 : k < 5) (h : ∀ r, post r) : wpL_cellAt post L xs u p1 :=
  pk_le L k (fun _ => h 0) (fun z => ⟨pk_in k L z hk, h _⟩) rfl hk
theorem cx_lawOf {post : Int32 → St0 → Prop} (r1 r2 r3 r4 r5 : Int32) (H : post 1 ()) : wpL_lawOf post 20 300 () r1 r2 r3 r4 r5 := by
  obtain ⟨p, hp, ep⟩ := pk_andE r1 (m := 7) 3 (by decide)
  obtain ⟨q, hq, eq⟩ := pk_andE r2 (m := 7) 3 (by decide)
  obtain ⟨t, ht, et⟩ := pk_andE r3 (m := 7) 3 (by decide)
  refine nm_r ep (nm_r eq (nm_r et ?_))
  exact pk_eq p q (fun e => cx_law30 hp hq ht (Or.inl ⟨rfl, e⟩) H) (fun e => cx_law30 hp hq ht (Or.inr ⟨rfl, e⟩) H)
theorem i_vc (xs : Nat → Int32) (L : Nat) (hL : L ≤ 5) : wpL_law (fun r => r = 1) L xs :=
  cx_cell hL 0 rfl (by decide) (fun r1 => cx_cell hL 1 rfl (by decide) (fun r2 => cx_cell hL 2 rfl (by decide) (fun r3 => cx_cell hL 3 rfl (by decide) (fun r4 => cx_cell hL 4 rfl (by decide) (fun r5 =>
    ⟨20, 300, by omega, by omega, cx_lawOf r1 r2 r3 r4 r5 rfl⟩)))))
end
