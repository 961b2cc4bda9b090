set_option maxRecDepth 100000
section
variable {p : Program} {l : Launch} {e : Env} {R : Room} {s : State} {m : MethodId} {args : Array Value} {below : List Frame} {meth : Method} {c : Code} {H : Heap} {locs : List Loc} {cells slots : Nat} {Q : State → Prop} {cc : ByteArray} {pc : Nat} {ls : Array Slot} {rest : List Value} {g : wg_T} {L : ly_T} {σ : st_T}
theorem gf_X1_44 (hexec : p.tables.exec = Jvm.exec) (hb : c.code = cc) (hts : ∀ w ∈ lw_all, w.before args s = true) (hown : s.vm.findClass RX1 = some m.cls) (hW : wv g L σ s H locs) {i : Nat} (hpr : pr σ 1 i) (hfl : gP_ σ 1 (200 + 1) i ≠ 0) (hdg : decode cc pc = .ok (.getfield 44, 3)) (kk : W p l e R s m args below meth c H locs cells slots Q (F0 m (pc + 3) ls (.ref (L 50 0) :: rest))) : W p l e R s m args below meth c H locs cells slots Q (F0 m pc ls (.ref (L 1 i) :: rest)) :=
  ww_get (d := (1, 50, 0)) hexec hb hts hown hW 1 i 1 hpr (obv_0 rfl) rfl in_X1 rfl (Nat.le_of_ble_eq_true rfl) (hts _ q360) (fun _ h => h) hdg (by rw [fv_p (fun z => by cases z) hfl]; exact kk)
theorem gf_X1_48 (hexec : p.tables.exec = Jvm.exec) (hb : c.code = cc) (hts : ∀ w ∈ lw_all, w.before args s = true) (hown : s.vm.findClass RX1 = some m.cls) (hW : wv g L σ s H locs) {i : Nat} (hpr : pr σ 1 i) (hfl : gP_ σ 1 (200 + 2) i ≠ 0) (hdg : decode cc pc = .ok (.getfield 48, 3)) (kk : W p l e R s m args below meth c H locs cells slots Q (F0 m (pc + 3) ls (.ref (L 50 1) :: rest))) : W p l e R s m args below meth c H locs cells slots Q (F0 m pc ls (.ref (L 1 i) :: rest)) :=
  ww_get (d := (1, 50, 1)) hexec hb hts hown hW 1 i 2 hpr (obv_0 rfl) rfl in_X1 rfl (Nat.le_of_ble_eq_true rfl) (hts _ q361) (fun _ h => h) hdg (by rw [fv_p (fun z => by cases z) hfl]; exact kk)
theorem gf_X1_57 (hexec : p.tables.exec = Jvm.exec) (hb : c.code = cc) (hts : ∀ w ∈ lw_all, w.before args s = true) (hown : s.vm.findClass RX1 = some m.cls) (hW : wv g L σ s H locs) {i : Nat} (hpr : pr σ 1 i) (hfl : gP_ σ 1 (200 + 4) i ≠ 0) (hdg : decode cc pc = .ok (.getfield 57, 3)) (kk : W p l e R s m args below meth c H locs cells slots Q (F0 m (pc + 3) ls (.ref (L 60 0) :: rest))) : W p l e R s m args below meth c H locs cells slots Q (F0 m pc ls (.ref (L 1 i) :: rest)) :=
  ww_get (d := (1, 60, 0)) hexec hb hts hown hW 1 i 4 hpr (obv_0 rfl) rfl in_X1 rfl (Nat.le_of_ble_eq_true rfl) (hts _ q363) (fun _ h => h) hdg (by rw [fv_p (fun z => by cases z) hfl]; exact kk)
theorem gf_X1_64 (hexec : p.tables.exec = Jvm.exec) (hb : c.code = cc) (hts : ∀ w ∈ lw_all, w.before args s = true) (hown : s.vm.findClass RX1 = some m.cls) (hW : wv g L σ s H locs) {i : Nat} (hpr : pr σ 1 i) (hfl : gP_ σ 1 (200 + 5) i ≠ 0) (hdg : decode cc pc = .ok (.getfield 64, 3)) (kk : W p l e R s m args below meth c H locs cells slots Q (F0 m (pc + 3) ls (.ref (L 65 0) :: rest))) : W p l e R s m args below meth c H locs cells slots Q (F0 m pc ls (.ref (L 1 i) :: rest)) :=
  ww_get (d := (1, 65, 0)) hexec hb hts hown hW 1 i 5 hpr (obv_0 rfl) rfl in_X1 rfl (Nat.le_of_ble_eq_true rfl) (hts _ q364) (fun _ h => h) hdg (by rw [fv_p (fun z => by cases z) hfl]; exact kk)
theorem gf_X1_71 (hexec : p.tables.exec = Jvm.exec) (hb : c.code = cc) (hts : ∀ w ∈ lw_all, w.before args s = true) (hown : s.vm.findClass RX1 = some m.cls) (hW : wv g L σ s H locs) {i : Nat} (hpr : pr σ 1 i) (hfl : gP_ σ 1 (200 + 6) i ≠ 0) (hdg : decode cc pc = .ok (.getfield 71, 3)) (kk : W p l e R s m args below meth c H locs cells slots Q (F0 m (pc + 3) ls (.ref (L 70 0) :: rest))) : W p l e R s m args below meth c H locs cells slots Q (F0 m pc ls (.ref (L 1 i) :: rest)) :=
  ww_get (d := (1, 70, 0)) hexec hb hts hown hW 1 i 6 hpr (obv_0 rfl) rfl in_X1 rfl (Nat.le_of_ble_eq_true rfl) (hts _ q365) (fun _ h => h) hdg (by rw [fv_p (fun z => by cases z) hfl]; exact kk)
theorem gf_X1_75 (hexec : p.tables.exec = Jvm.exec) (hb : c.code = cc) (hts : ∀ w ∈ lw_all, w.before args s = true) (hown : s.vm.findClass RX1 = some m.cls) (hW : wv g L σ s H locs) {i : Nat} (hpr : pr σ 1 i) (hfl : gP_ σ 1 (200 + 7) i ≠ 0) (hdg : decode cc pc = .ok (.getfield 75, 3)) (kk : W p l e R s m args below meth c H locs cells slots Q (F0 m (pc + 3) ls (.ref (L 72 0) :: rest))) : W p l e R s m args below meth c H locs cells slots Q (F0 m pc ls (.ref (L 1 i) :: rest)) :=
  ww_get (d := (1, 72, 0)) hexec hb hts hown hW 1 i 7 hpr (obv_0 rfl) rfl in_X1 rfl (Nat.le_of_ble_eq_true rfl) (hts _ q366) (fun _ h => h) hdg (by rw [fv_p (fun z => by cases z) hfl]; exact kk)
theorem gf_X1_78 (hexec : p.tables.exec = Jvm.exec) (hb : c.code = cc) (hts : ∀ w ∈ lw_all, w.before args s = true) (hown : s.vm.findClass RX1 = some m.cls) (hW : wv g L σ s H locs) {i : Nat} (hpr : pr σ 1 i) (hfl : gP_ σ 1 (200 + 8) i ≠ 0) (hdg : decode cc pc = .ok (.getfield 78, 3)) (kk : W p l e R s m args below meth c H locs cells slots Q (F0 m (pc + 3) ls (.ref (L 74 0) :: rest))) : W p l e R s m args below meth c H locs cells slots Q (F0 m pc ls (.ref (L 1 i) :: rest)) :=
  ww_get (d := (1, 74, 0)) hexec hb hts hown hW 1 i 8 hpr (obv_0 rfl) rfl in_X1 rfl (Nat.le_of_ble_eq_true rfl) (hts _ q367) (fun _ h => h) hdg (by rw [fv_p (fun z => by cases z) hfl]; exact kk)
theorem gf_X1_81 (hexec : p.tables.exec = Jvm.exec) (hb : c.code = cc) (hts : ∀ w ∈ lw_all, w.before args s = true) (hown : s.vm.findClass RX1 = some m.cls) (hW : wv g L σ s H locs) {i : Nat} (hpr : pr σ 1 i) (hfl : gP_ σ 1 (200 + 9) i ≠ 0) (hdg : decode cc pc = .ok (.getfield 81, 3)) (kk : W p l e R s m args below meth c H locs cells slots Q (F0 m (pc + 3) ls (.ref (L 76 0) :: rest))) : W p l e R s m args below meth c H locs cells slots Q (F0 m pc ls (.ref (L 1 i) :: rest)) :=
  ww_get (d := (1, 76, 0)) hexec hb hts hown hW 1 i 9 hpr (obv_0 rfl) rfl in_X1 rfl (Nat.le_of_ble_eq_true rfl) (hts _ q368) (fun _ h => h) hdg (by rw [fv_p (fun z => by cases z) hfl]; exact kk)
theorem gf_X1_84 (hexec : p.tables.exec = Jvm.exec) (hb : c.code = cc) (hts : ∀ w ∈ lw_all, w.before args s = true) (hown : s.vm.findClass RX1 = some m.cls) (hW : wv g L σ s H locs) {i : Nat} (hpr : pr σ 1 i) (hfl : gP_ σ 1 (200 + 10) i ≠ 0) (hdg : decode cc pc = .ok (.getfield 84, 3)) (kk : W p l e R s m args below meth c H locs cells slots Q (F0 m (pc + 3) ls (.ref (L 20 0) :: rest))) : W p l e R s m args below meth c H locs cells slots Q (F0 m pc ls (.ref (L 1 i) :: rest)) :=
  ww_get (d := (1, 20, 0)) hexec hb hts hown hW 1 i 10 hpr (obv_0 rfl) rfl in_X1 rfl (Nat.le_of_ble_eq_true rfl) (hts _ q369) (fun _ h => h) hdg (by rw [fv_p (fun z => by cases z) hfl]; exact kk)
theorem gf_X1_88 (hexec : p.tables.exec = Jvm.exec) (hb : c.code = cc) (hts : ∀ w ∈ lw_all, w.before args s = true) (hown : s.vm.findClass RX1 = some m.cls) (hW : wv g L σ s H locs) {i : Nat} (hpr : pr σ 1 i) (hfl : gP_ σ 1 (200 + 11) i ≠ 0) (hdg : decode cc pc = .ok (.getfield 88, 3)) (kk : W p l e R s m args below meth c H locs cells slots Q (F0 m (pc + 3) ls (.ref (L 21 0) :: rest))) : W p l e R s m args below meth c H locs cells slots Q (F0 m pc ls (.ref (L 1 i) :: rest)) :=
  ww_get (d := (1, 21, 0)) hexec hb hts hown hW 1 i 11 hpr (obv_0 rfl) rfl in_X1 rfl (Nat.le_of_ble_eq_true rfl) (hts _ q370) (fun _ h => h) hdg (by rw [fv_p (fun z => by cases z) hfl]; exact kk)
theorem gf_X1_91 (hexec : p.tables.exec = Jvm.exec) (hb : c.code = cc) (hts : ∀ w ∈ lw_all, w.before args s = true) (hown : s.vm.findClass RX1 = some m.cls) (hW : wv g L σ s H locs) {i : Nat} (hpr : pr σ 1 i) (hfl : gP_ σ 1 (200 + 12) i ≠ 0) (hdg : decode cc pc = .ok (.getfield 91, 3)) (kk : W p l e R s m args below meth c H locs cells slots Q (F0 m (pc + 3) ls (.ref (L 22 0) :: rest))) : W p l e R s m args below meth c H locs cells slots Q (F0 m pc ls (.ref (L 1 i) :: rest)) :=
  ww_get (d := (1, 22, 0)) hexec hb hts hown hW 1 i 12 hpr (obv_0 rfl) rfl in_X1 rfl (Nat.le_of_ble_eq_true rfl) (hts _ q371) (fun _ h => h) hdg (by rw [fv_p (fun z => by cases z) hfl]; exact kk)
theorem gf_X1_94 (hexec : p.tables.exec = Jvm.exec) (hb : c.code = cc) (hts : ∀ w ∈ lw_all, w.before args s = true) (hown : s.vm.findClass RX1 = some m.cls) (hW : wv g L σ s H locs) {i : Nat} (hpr : pr σ 1 i) (hfl : gP_ σ 1 (200 + 13) i ≠ 0) (hdg : decode cc pc = .ok (.getfield 94, 3)) (kk : W p l e R s m args below meth c H locs cells slots Q (F0 m (pc + 3) ls (.ref (L 23 0) :: rest))) : W p l e R s m args below meth c H locs cells slots Q (F0 m pc ls (.ref (L 1 i) :: rest)) :=
  ww_get (d := (1, 23, 0)) hexec hb hts hown hW 1 i 13 hpr (obv_0 rfl) rfl in_X1 rfl (Nat.le_of_ble_eq_true rfl) (hts _ q373) (fun _ h => h) hdg (by rw [fv_p (fun z => by cases z) hfl]; exact kk)
theorem gf_X1_97 (hexec : p.tables.exec = Jvm.exec) (hb : c.code = cc) (hts : ∀ w ∈ lw_all, w.before args s = true) (hown : s.vm.findClass RX1 = some m.cls) (hW : wv g L σ s H locs) {i : Nat} (hpr : pr σ 1 i) (hfl : gP_ σ 1 (200 + 14) i ≠ 0) (hdg : decode cc pc = .ok (.getfield 97, 3)) (kk : W p l e R s m args below meth c H locs cells slots Q (F0 m (pc + 3) ls (.ref (L 24 0) :: rest))) : W p l e R s m args below meth c H locs cells slots Q (F0 m pc ls (.ref (L 1 i) :: rest)) :=
  ww_get (d := (1, 24, 0)) hexec hb hts hown hW 1 i 14 hpr (obv_0 rfl) rfl in_X1 rfl (Nat.le_of_ble_eq_true rfl) (hts _ q374) (fun _ h => h) hdg (by rw [fv_p (fun z => by cases z) hfl]; exact kk)
theorem gf_X1_100 (hexec : p.tables.exec = Jvm.exec) (hb : c.code = cc) (hts : ∀ w ∈ lw_all, w.before args s = true) (hown : s.vm.findClass RX1 = some m.cls) (hW : wv g L σ s H locs) {i : Nat} (hpr : pr σ 1 i) (hfl : gP_ σ 1 (200 + 15) i ≠ 0) (hdg : decode cc pc = .ok (.getfield 100, 3)) (kk : W p l e R s m args below meth c H locs cells slots Q (F0 m (pc + 3) ls (.ref (L 25 0) :: rest))) : W p l e R s m args below meth c H locs cells slots Q (F0 m pc ls (.ref (L 1 i) :: rest)) :=
  ww_get (d := (1, 25, 0)) hexec hb hts hown hW 1 i 15 hpr (obv_0 rfl) rfl in_X1 rfl (Nat.le_of_ble_eq_true rfl) (hts _ q375) (fun _ h => h) hdg (by rw [fv_p (fun z => by cases z) hfl]; exact kk)
theorem gf_X1_103 (hexec : p.tables.exec = Jvm.exec) (hb : c.code = cc) (hts : ∀ w ∈ lw_all, w.before args s = true) (hown : s.vm.findClass RX1 = some m.cls) (hW : wv g L σ s H locs) {i : Nat} (hpr : pr σ 1 i) (hfl : gP_ σ 1 (200 + 16) i ≠ 0) (hdg : decode cc pc = .ok (.getfield 103, 3)) (kk : W p l e R s m args below meth c H locs cells slots Q (F0 m (pc + 3) ls (.ref (L 26 0) :: rest))) : W p l e R s m args below meth c H locs cells slots Q (F0 m pc ls (.ref (L 1 i) :: rest)) :=
  ww_get (d := (1, 26, 0)) hexec hb hts hown hW 1 i 16 hpr (obv_0 rfl) rfl in_X1 rfl (Nat.le_of_ble_eq_true rfl) (hts _ q376) (fun _ h => h) hdg (by rw [fv_p (fun z => by cases z) hfl]; exact kk)
theorem gf_X1_106 (hexec : p.tables.exec = Jvm.exec) (hb : c.code = cc) (hts : ∀ w ∈ lw_all, w.before args s = true) (hown : s.vm.findClass RX1 = some m.cls) (hW : wv g L σ s H locs) {i : Nat} (hpr : pr σ 1 i) (hfl : gP_ σ 1 (200 + 17) i ≠ 0) (hdg : decode cc pc = .ok (.getfield 106, 3)) (kk : W p l e R s m args below meth c H locs cells slots Q (F0 m (pc + 3) ls (.ref (L 27 0) :: rest))) : W p l e R s m args below meth c H locs cells slots Q (F0 m pc ls (.ref (L 1 i) :: rest)) :=
  ww_get (d := (1, 27, 0)) hexec hb hts hown hW 1 i 17 hpr (obv_0 rfl) rfl in_X1 rfl (Nat.le_of_ble_eq_true rfl) (hts _ q377) (fun _ h => h) hdg (by rw [fv_p (fun z => by cases z) hfl]; exact kk)
theorem gf_X1_109 (hexec : p.tables.exec = Jvm.exec) (hb : c.code = cc) (hts : ∀ w ∈ lw_all, w.before args s = true) (hown : s.vm.findClass RX1 = some m.cls) (hW : wv g L σ s H locs) {i : Nat} (hpr : pr σ 1 i) (hfl : gP_ σ 1 (200 + 18) i ≠ 0) (hdg : decode cc pc = .ok (.getfield 109, 3)) (kk : W p l e R s m args below meth c H locs cells slots Q (F0 m (pc + 3) ls (.ref (L 28 0) :: rest))) : W p l e R s m args below meth c H locs cells slots Q (F0 m pc ls (.ref (L 1 i) :: rest)) :=
  ww_get (d := (1, 28, 0)) hexec hb hts hown hW 1 i 18 hpr (obv_0 rfl) rfl in_X1 rfl (Nat.le_of_ble_eq_true rfl) (hts _ q378) (fun _ h => h) hdg (by rw [fv_p (fun z => by cases z) hfl]; exact kk)
theorem gf_X1_118 (hexec : p.tables.exec = Jvm.exec) (hb : c.code = cc) (hts : ∀ w ∈ lw_all, w.before args s = true) (hown : s.vm.findClass RX1 = some m.cls) (hW : wv g L σ s H locs) {i : Nat} (hpr : pr σ 1 i) (hfl : gP_ σ 1 (200 + 21) i ≠ 0) (hdg : decode cc pc = .ok (.getfield 118, 3)) (kk : W p l e R s m args below meth c H locs cells slots Q (F0 m (pc + 3) ls (.ref (L 31 0) :: rest))) : W p l e R s m args below meth c H locs cells slots Q (F0 m pc ls (.ref (L 1 i) :: rest)) :=
  ww_get (d := (1, 31, 0)) hexec hb hts hown hW 1 i 21 hpr (obv_0 rfl) rfl in_X1 rfl (Nat.le_of_ble_eq_true rfl) (hts _ q381) (fun _ h => h) hdg (by rw [fv_p (fun z => by cases z) hfl]; exact kk)
theorem gf_X1_121 (hexec : p.tables.exec = Jvm.exec) (hb : c.code = cc) (hts : ∀ w ∈ lw_all, w.before args s = true) (hown : s.vm.findClass RX1 = some m.cls) (hW : wv g L σ s H locs) {i : Nat} (hpr : pr σ 1 i) (hfl : gP_ σ 1 (200 + 22) i ≠ 0) (hdg : decode cc pc = .ok (.getfield 121, 3)) (kk : W p l e R s m args below meth c H locs cells slots Q (F0 m (pc + 3) ls (.ref (L 32 (gP_ σ 1 22 i)) :: rest))) : W p l e R s m args below meth c H locs cells slots Q (F0 m pc ls (.ref (L 1 i) :: rest)) :=
  ww_get (d := (3, 32, 0)) hexec hb hts hown hW 1 i 22 hpr (obv_0 rfl) rfl in_X1 rfl (Nat.le_of_ble_eq_true rfl) (hts _ q382) (fun _ h => h) hdg (by rw [fv_p (fun z => by cases z) hfl]; exact kk)
theorem gf_X1_124 (hexec : p.tables.exec = Jvm.exec) (hb : c.code = cc) (hts : ∀ w ∈ lw_all, w.before args s = true) (hown : s.vm.findClass RX1 = some m.cls) (hW : wv g L σ s H locs) {i : Nat} (hpr : pr σ 1 i) (hfl : gP_ σ 1 (200 + 23) i ≠ 0) (hdg : decode cc pc = .ok (.getfield 124, 3)) (kk : W p l e R s m args below meth c H locs cells slots Q (F0 m (pc + 3) ls (.ref (L 32 1) :: rest))) : W p l e R s m args below meth c H locs cells slots Q (F0 m pc ls (.ref (L 1 i) :: rest)) :=
  ww_get (d := (1, 32, 1)) hexec hb hts hown hW 1 i 23 hpr (obv_0 rfl) rfl in_X1 rfl (Nat.le_of_ble_eq_true rfl) (hts _ q383) (fun _ h => h) hdg (by rw [fv_p (fun z => by cases z) hfl]; exact kk)
theorem gf_X1_130 (hexec : p.tables.exec = Jvm.exec) (hb : c.code = cc) (hts : ∀ w ∈ lw_all, w.before args s = true) (hown : s.vm.findClass RX1 = some m.cls) (hW : wv g L σ s H locs) {i : Nat} (hpr : pr σ 1 i) (hfl : gP_ σ 1 (200 + 25) i ≠ 0) (hdg : decode cc pc = .ok (.getfield 130, 3)) (kk : W p l e R s m args below meth c H locs cells slots Q (F0 m (pc + 3) ls (.ref (L 35 0) :: rest))) : W p l e R s m args below meth c H locs cells slots Q (F0 m pc ls (.ref (L 1 i) :: rest)) :=
  ww_get (d := (1, 35, 0)) hexec hb hts hown hW 1 i 25 hpr (obv_0 rfl) rfl in_X1 rfl (Nat.le_of_ble_eq_true rfl) (hts _ q386) (fun _ h => h) hdg (by rw [fv_p (fun z => by cases z) hfl]; exact kk)
theorem gf_X1_134 (hexec : p.tables.exec = Jvm.exec) (hb : c.code = cc) (hts : ∀ w ∈ lw_all, w.before args s = true) (hown : s.vm.findClass RX1 = some m.cls) (hW : wv g L σ s H locs) {i : Nat} (hpr : pr σ 1 i) (hfl : gP_ σ 1 (200 + 26) i ≠ 0) (hdg : decode cc pc = .ok (.getfield 134, 3)) (kk : W p l e R s m args below meth c H locs cells slots Q (F0 m (pc + 3) ls (.ref (L 36 0) :: rest))) : W p l e R s m args below meth c H locs cells slots Q (F0 m pc ls (.ref (L 1 i) :: rest)) :=
  ww_get (d := (1, 36, 0)) hexec hb hts hown hW 1 i 26 hpr (obv_0 rfl) rfl in_X1 rfl (Nat.le_of_ble_eq_true rfl) (hts _ q388) (fun _ h => h) hdg (by rw [fv_p (fun z => by cases z) hfl]; exact kk)
theorem gf_X1_137 (hexec : p.tables.exec = Jvm.exec) (hb : c.code = cc) (hts : ∀ w ∈ lw_all, w.before args s = true) (hown : s.vm.findClass RX1 = some m.cls) (hW : wv g L σ s H locs) {i : Nat} (hpr : pr σ 1 i) (hfl : gP_ σ 1 (200 + 27) i ≠ 0) (hdg : decode cc pc = .ok (.getfield 137, 3)) (kk : W p l e R s m args below meth c H locs cells slots Q (F0 m (pc + 3) ls (.ref (L 37 0) :: rest))) : W p l e R s m args below meth c H locs cells slots Q (F0 m pc ls (.ref (L 1 i) :: rest)) :=
  ww_get (d := (1, 37, 0)) hexec hb hts hown hW 1 i 27 hpr (obv_0 rfl) rfl in_X1 rfl (Nat.le_of_ble_eq_true rfl) (hts _ q389) (fun _ h => h) hdg (by rw [fv_p (fun z => by cases z) hfl]; exact kk)
theorem gf_X1_140 (hexec : p.tables.exec = Jvm.exec) (hb : c.code = cc) (hts : ∀ w ∈ lw_all, w.before args s = true) (hown : s.vm.findClass RX1 = some m.cls) (hW : wv g L σ s H locs) {i : Nat} (hpr : pr σ 1 i) (hfl : gP_ σ 1 (200 + 28) i ≠ 0) (hdg : decode cc pc = .ok (.getfield 140, 3)) (kk : W p l e R s m args below meth c H locs cells slots Q (F0 m (pc + 3) ls (.ref (L 38 0) :: rest))) : W p l e R s m args below meth c H locs cells slots Q (F0 m pc ls (.ref (L 1 i) :: rest)) :=
  ww_get (d := (1, 38, 0)) hexec hb hts hown hW 1 i 28 hpr (obv_0 rfl) rfl in_X1 rfl (Nat.le_of_ble_eq_true rfl) (hts _ q390) (fun _ h => h) hdg (by rw [fv_p (fun z => by cases z) hfl]; exact kk)
theorem gf_X1_143 (hexec : p.tables.exec = Jvm.exec) (hb : c.code = cc) (hts : ∀ w ∈ lw_all, w.before args s = true) (hown : s.vm.findClass RX1 = some m.cls) (hW : wv g L σ s H locs) {i : Nat} (hpr : pr σ 1 i) (hfl : gP_ σ 1 (200 + 29) i ≠ 0) (hdg : decode cc pc = .ok (.getfield 143, 3)) (kk : W p l e R s m args below meth c H locs cells slots Q (F0 m (pc + 3) ls (.ref (L 39 0) :: rest))) : W p l e R s m args below meth c H locs cells slots Q (F0 m pc ls (.ref (L 1 i) :: rest)) :=
  ww_get (d := (1, 39, 0)) hexec hb hts hown hW 1 i 29 hpr (obv_0 rfl) rfl in_X1 rfl (Nat.le_of_ble_eq_true rfl) (hts _ q391) (fun _ h => h) hdg (by rw [fv_p (fun z => by cases z) hfl]; exact kk)
theorem gf_X1_148 (hexec : p.tables.exec = Jvm.exec) (hb : c.code = cc) (hts : ∀ w ∈ lw_all, w.before args s = true) (hown : s.vm.findClass RX1 = some m.cls) (hW : wv g L σ s H locs) {i : Nat} (hpr : pr σ 1 i) (hfl : gP_ σ 1 (200 + 30) i ≠ 0) (hdg : decode cc pc = .ok (.getfield 148, 3)) (kk : W p l e R s m args below meth c H locs cells slots Q (F0 m (pc + 3) ls (.ref (L 40 0) :: rest))) : W p l e R s m args below meth c H locs cells slots Q (F0 m pc ls (.ref (L 1 i) :: rest)) :=
  ww_get (d := (1, 40, 0)) hexec hb hts hown hW 1 i 30 hpr (obv_0 rfl) rfl in_X1 rfl (Nat.le_of_ble_eq_true rfl) (hts _ q392) (fun _ h => h) hdg (by rw [fv_p (fun z => by cases z) hfl]; exact kk)
theorem gf_X1_156 (hexec : p.tables.exec = Jvm.exec) (hb : c.code = cc) (hts : ∀ w ∈ lw_all, w.before args s = true) (hown : s.vm.findClass RX1 = some m.cls) (hW : wv g L σ s H locs) {i : Nat} (hpr : pr σ 1 i) (hfl : gP_ σ 1 (200 + 31) i ≠ 0) (hdg : decode cc pc = .ok (.getfield 156, 3)) (kk : W p l e R s m args below meth c H locs cells slots Q (F0 m (pc + 3) ls (.ref (L 87 (gP_ σ 1 31 i)) :: rest))) : W p l e R s m args below meth c H locs cells slots Q (F0 m pc ls (.ref (L 1 i) :: rest)) :=
  ww_get (d := (3, 87, 0)) hexec hb hts hown hW 1 i 31 hpr (obv_0 rfl) rfl in_X1 rfl (Nat.le_of_ble_eq_true rfl) (hts _ q393) (fun _ h => h) hdg (by rw [fv_p (fun z => by cases z) hfl]; exact kk)
theorem gf_X1_183 (hexec : p.tables.exec = Jvm.exec) (hb : c.code = cc) (hts : ∀ w ∈ lw_all, w.before args s = true) (hown : s.vm.findClass RX1 = some m.cls) (hW : wv g L σ s H locs) {i : Nat} (hpr : pr σ 50 i) (hfl : gP_ σ 50 (200 + 0) i ≠ 0) (hdg : decode cc pc = .ok (.getfield 183, 3)) (kk : W p l e R s m args below meth c H locs cells slots Q (F0 m (pc + 3) ls (.ref (L 51 i) :: rest))) : W p l e R s m args below meth c H locs cells slots Q (F0 m pc ls (.ref (L 50 i) :: rest)) :=
  ww_getN (d := (2, 51, 0)) hexec hb hts hown hW 50 i 0 hpr (obv_0 rfl) rfl in_X2 rfl (Nat.le_of_ble_eq_true rfl) (hW.nw 1 rfl) (fun _ h => h) hdg (by rw [fv_p (fun z => by cases z) hfl]; exact kk)
theorem gf_X1_186 (hexec : p.tables.exec = Jvm.exec) (hb : c.code = cc) (hts : ∀ w ∈ lw_all, w.before args s = true) (hown : s.vm.findClass RX1 = some m.cls) (hW : wv g L σ s H locs) {i : Nat} (hpr : pr σ 50 i) (hfl : gP_ σ 50 (200 + 3) i ≠ 0) (hdg : decode cc pc = .ok (.getfield 186, 3)) (kk : W p l e R s m args below meth c H locs cells slots Q (F0 m (pc + 3) ls (.ref (L 54 i) :: rest))) : W p l e R s m args below meth c H locs cells slots Q (F0 m pc ls (.ref (L 50 i) :: rest)) :=
  ww_getN (d := (2, 54, 0)) hexec hb hts hown hW 50 i 3 hpr (obv_0 rfl) rfl in_X2 rfl (Nat.le_of_ble_eq_true rfl) (hW.nw 4 rfl) (fun _ h => h) hdg (by rw [fv_p (fun z => by cases z) hfl]; exact kk)
theorem gf_X1_199 (hexec : p.tables.exec = Jvm.exec) (hb : c.code = cc) (hts : ∀ w ∈ lw_all, w.before args s = true) (hown : s.vm.findClass RX1 = some m.cls) (hW : wv g L σ s H locs) {i : Nat} (hpr : pr σ 80 i) (hdg : decode cc pc = .ok (.getfield 199, 3)) (kk : W p l e R s m args below meth c H locs cells slots Q (F0 m (pc + 3) ls (.int (gF_ σ 80 0 i) :: rest))) : W p l e R s m args below meth c H locs cells slots Q (F0 m pc ls (.ref (L 80 i) :: rest)) :=
  ww_getN (d := (0, 0, 0)) hexec hb hts hown hW 80 i 0 hpr (obv_0 rfl) rfl in_X16 rfl (Nat.le_of_ble_eq_true rfl) (hW.nw 49 rfl) (fun _ h => h) hdg kk
theorem gf_X1_203 (hexec : p.tables.exec = Jvm.exec) (hb : c.code = cc) (hts : ∀ w ∈ lw_all, w.before args s = true) (hown : s.vm.findClass RX1 = some m.cls) (hW : wv g L σ s H locs) {i : Nat} (hpr : pr σ 80 i) (hdg : decode cc pc = .ok (.getfield 203, 3)) (kk : W p l e R s m args below meth c H locs cells slots Q (F0 m (pc + 3) ls (.int (gF_ σ 80 5 i) :: rest))) : W p l e R s m args below meth c H locs cells slots Q (F0 m pc ls (.ref (L 80 i) :: rest)) :=
  ww_getN (d := (0, 0, 0)) hexec hb hts hown hW 80 i 5 hpr (obv_0 rfl) rfl in_X16 rfl (Nat.le_of_ble_eq_true rfl) (hW.nw 54 rfl) (fun _ h => h) hdg kk
theorem gf_X1_206 (hexec : p.tables.exec = Jvm.exec) (hb : c.code = cc) (hts : ∀ w ∈ lw_all, w.before args s = true) (hown : s.vm.findClass RX1 = some m.cls) (hW : wv g L σ s H locs) {i : Nat} (hpr : pr σ 80 i) (hfl : gP_ σ 80 (200 + 4) i ≠ 0) (hdg : decode cc pc = .ok (.getfield 206, 3)) (kk : W p l e R s m args below meth c H locs cells slots Q (F0 m (pc + 3) ls (.ref (L 82 i) :: rest))) : W p l e R s m args below meth c H locs cells slots Q (F0 m pc ls (.ref (L 80 i) :: rest)) :=
  ww_getN (d := (2, 82, 0)) hexec hb hts hown hW 80 i 4 hpr (obv_0 rfl) rfl in_X16 rfl (Nat.le_of_ble_eq_true rfl) (hW.nw 53 rfl) (fun _ h => h) hdg (by rw [fv_p (fun z => by cases z) hfl]; exact kk)
theorem gf_X1_222 (hexec : p.tables.exec = Jvm.exec) (hb : c.code = cc) (hts : ∀ w ∈ lw_all, w.before args s = true) (hown : s.vm.findClass RX1 = some m.cls) (hW : wv g L σ s H locs) {i : Nat} (hpr : pr σ 50 i) (hfl : gP_ σ 50 (200 + 1) i ≠ 0) (hdg : decode cc pc = .ok (.getfield 222, 3)) (kk : W p l e R s m args below meth c H locs cells slots Q (F0 m (pc + 3) ls (.ref (L 52 i) :: rest))) : W p l e R s m args below meth c H locs cells slots Q (F0 m pc ls (.ref (L 50 i) :: rest)) :=
  ww_getN (d := (2, 52, 0)) hexec hb hts hown hW 50 i 1 hpr (obv_0 rfl) rfl in_X2 rfl (Nat.le_of_ble_eq_true rfl) (hW.nw 2 rfl) (fun _ h => h) hdg (by rw [fv_p (fun z => by cases z) hfl]; exact kk)
theorem gf_X1_224 (hexec : p.tables.exec = Jvm.exec) (hb : c.code = cc) (hts : ∀ w ∈ lw_all, w.before args s = true) (hown : s.vm.findClass RX1 = some m.cls) (hW : wv g L σ s H locs) {i : Nat} (hpr : pr σ 50 i) (hfl : gP_ σ 50 (200 + 2) i ≠ 0) (hdg : decode cc pc = .ok (.getfield 224, 3)) (kk : W p l e R s m args below meth c H locs cells slots Q (F0 m (pc + 3) ls (.ref (L 53 i) :: rest))) : W p l e R s m args below meth c H locs cells slots Q (F0 m pc ls (.ref (L 50 i) :: rest)) :=
  ww_getN (d := (2, 53, 0)) hexec hb hts hown hW 50 i 2 hpr (obv_0 rfl) rfl in_X2 rfl (Nat.le_of_ble_eq_true rfl) (hW.nw 3 rfl) (fun _ h => h) hdg (by rw [fv_p (fun z => by cases z) hfl]; exact kk)
theorem gf_X1_240 (hexec : p.tables.exec = Jvm.exec) (hb : c.code = cc) (hts : ∀ w ∈ lw_all, w.before args s = true) (hown : s.vm.findClass RX1 = some m.cls) (hW : wv g L σ s H locs) {i : Nat} (hpr : pr σ 50 i) (hfl : gP_ σ 50 (200 + 4) i ≠ 0) (hdg : decode cc pc = .ok (.getfield 240, 3)) (kk : W p l e R s m args below meth c H locs cells slots Q (F0 m (pc + 3) ls (.ref (L 55 i) :: rest))) : W p l e R s m args below meth c H locs cells slots Q (F0 m pc ls (.ref (L 50 i) :: rest)) :=
  ww_getN (d := (2, 55, 0)) hexec hb hts hown hW 50 i 4 hpr (obv_0 rfl) rfl in_X2 rfl (Nat.le_of_ble_eq_true rfl) (hW.nw 5 rfl) (fun _ h => h) hdg (by rw [fv_p (fun z => by cases z) hfl]; exact kk)
theorem gf_X1_243 (hexec : p.tables.exec = Jvm.exec) (hb : c.code = cc) (hts : ∀ w ∈ lw_all, w.before args s = true) (hown : s.vm.findClass RX1 = some m.cls) (hW : wv g L σ s H locs) {i : Nat} (hpr : pr σ 1 i) (hdg : decode cc pc = .ok (.getfield 243, 3)) (kk : W p l e R s m args below meth c H locs cells slots Q (F0 m (pc + 3) ls (.int (gF_ σ 1 32 i) :: rest))) : W p l e R s m args below meth c H locs cells slots Q (F0 m pc ls (.ref (L 1 i) :: rest)) :=
  ww_get (d := (0, 0, 0)) hexec hb hts hown hW 1 i 32 hpr (obv_0 rfl) rfl in_X1 rfl (Nat.le_of_ble_eq_true rfl) (hts _ q394) (fun _ h => h) hdg kk
theorem gf_X1_253 (hexec : p.tables.exec = Jvm.exec) (hb : c.code = cc) (hts : ∀ w ∈ lw_all, w.before args s = true) (hown : s.vm.findClass RX1 = some m.cls) (hW : wv g L σ s H locs) {i : Nat} (hpr : pr σ 87 i) (hdg : decode cc pc = .ok (.getfield 253, 3)) (kk : W p l e R s m args below meth c H locs cells slots Q (F0 m (pc + 3) ls (.int (gF_ σ 87 9 i) :: rest))) : W p l e R s m args below meth c H locs cells slots Q (F0 m pc ls (.ref (L 87 i) :: rest)) :=
  ww_getN (d := (0, 0, 0)) hexec hb hts hown hW 87 i 9 hpr (obv_0 rfl) rfl in_X5 rfl (Nat.le_of_ble_eq_true rfl) (hW.nw 18 rfl) (fun _ h => h) hdg kk
theorem gf_X1_272 (hexec : p.tables.exec = Jvm.exec) (hb : c.code = cc) (hts : ∀ w ∈ lw_all, w.before args s = true) (hown : s.vm.findClass RX1 = some m.cls) (hW : wv g L σ s H locs) {i : Nat} (hpr : pr σ 87 i) (hdg : decode cc pc = .ok (.getfield 272, 3)) (kk : W p l e R s m args below meth c H locs cells slots Q (F0 m (pc + 3) ls (.int (gF_ σ 87 3 i) :: rest))) : W p l e R s m args below meth c H locs cells slots Q (F0 m pc ls (.ref (L 87 i) :: rest)) :=
  ww_getN (d := (0, 0, 0)) hexec hb hts hown hW 87 i 3 hpr (obv_0 rfl) rfl in_X5 rfl (Nat.le_of_ble_eq_true rfl) (hW.nw 12 rfl) (fun _ h => h) hdg kk
theorem gf_X1_279 (hexec : p.tables.exec = Jvm.exec) (hb : c.code = cc) (hts : ∀ w ∈ lw_all, w.before args s = true) (hown : s.vm.findClass RX1 = some m.cls) (hW : wv g L σ s H locs) {i : Nat} (hpr : pr σ 60 i) (hfl : gP_ σ 60 (200 + 0) i ≠ 0) (hdg : decode cc pc = .ok (.getfield 279, 3)) (kk : W p l e R s m args below meth c H locs cells slots Q (F0 m (pc + 3) ls (.ref (L 61 0) :: rest))) : W p l e R s m args below meth c H locs cells slots Q (F0 m pc ls (.ref (L 60 i) :: rest)) :=
  ww_getN (d := (1, 61, 0)) hexec hb hts hown hW 60 i 0 hpr (obv_0 rfl) rfl in_X3 rfl (Nat.le_of_ble_eq_true rfl) (hW.nw 7 rfl) (fun _ h => h) hdg (by rw [fv_p (fun z => by cases z) hfl]; exact kk)
theorem gf_X1_287 (hexec : p.tables.exec = Jvm.exec) (hb : c.code = cc) (hts : ∀ w ∈ lw_all, w.before args s = true) (hown : s.vm.findClass RX1 = some m.cls) (hW : wv g L σ s H locs) {i : Nat} (hpr : pr σ 60 i) (hdg : decode cc pc = .ok (.getfield 287, 3)) (kk : W p l e R s m args below meth c H locs cells slots Q (F0 m (pc + 3) ls (.int (gF_ σ 60 3 i) :: rest))) : W p l e R s m args below meth c H locs cells slots Q (F0 m pc ls (.ref (L 60 i) :: rest)) :=
  ww_getN (d := (0, 0, 0)) hexec hb hts hown hW 60 i 3 hpr (obv_0 rfl) rfl in_X3 rfl (Nat.le_of_ble_eq_true rfl) (hW.nw 9 rfl) (fun _ h => h) hdg kk
theorem gf_X1_290 (hexec : p.tables.exec = Jvm.exec) (hb : c.code = cc) (hts : ∀ w ∈ lw_all, w.before args s = true) (hown : s.vm.findClass RX1 = some m.cls) (hW : wv g L σ s H locs) {i : Nat} (hpr : pr σ 60 i) (hfl : gP_ σ 60 (200 + 1) i ≠ 0) (hdg : decode cc pc = .ok (.getfield 290, 3)) (kk : W p l e R s m args below meth c H locs cells slots Q (F0 m (pc + 3) ls (.ref (L 62 0) :: rest))) : W p l e R s m args below meth c H locs cells slots Q (F0 m pc ls (.ref (L 60 i) :: rest)) :=
  ww_getN (d := (1, 62, 0)) hexec hb hts hown hW 60 i 1 hpr (obv_0 rfl) rfl in_X3 rfl (Nat.le_of_ble_eq_true rfl) (hW.nw 8 rfl) (fun _ h => h) hdg (by rw [fv_p (fun z => by cases z) hfl]; exact kk)
theorem gf_X1_296 (hexec : p.tables.exec = Jvm.exec) (hb : c.code = cc) (hts : ∀ w ∈ lw_all, w.before args s = true) (hown : s.vm.findClass RX1 = some m.cls) (hW : wv g L σ s H locs) {i : Nat} (hpr : pr σ 1 i) (hdg : decode cc pc = .ok (.getfield 296, 3)) (kk : W p l e R s m args below meth c H locs cells slots Q (F0 m (pc + 3) ls (.int (gF_ σ 1 34 i) :: rest))) : W p l e R s m args below meth c H locs cells slots Q (F0 m pc ls (.ref (L 1 i) :: rest)) :=
  ww_get (d := (0, 0, 0)) hexec hb hts hown hW 1 i 34 hpr (obv_0 rfl) rfl in_X1 rfl (Nat.le_of_ble_eq_true rfl) (hts _ q397) (fun _ h => h) hdg kk
theorem gf_X1_299 (hexec : p.tables.exec = Jvm.exec) (hb : c.code = cc) (hts : ∀ w ∈ lw_all, w.before args s = true) (hown : s.vm.findClass RX1 = some m.cls) (hW : wv g L σ s H locs) {i : Nat} (hpr : pr σ 87 i) (hdg : decode cc pc = .ok (.getfield 299, 3)) (kk : W p l e R s m args below meth c H locs cells slots Q (F0 m (pc + 3) ls (.int (gF_ σ 87 4 i) :: rest))) : W p l e R s m args below meth c H locs cells slots Q (F0 m pc ls (.ref (L 87 i) :: rest)) :=
  ww_getN (d := (0, 0, 0)) hexec hb hts hown hW 87 i 4 hpr (obv_0 rfl) rfl in_X5 rfl (Nat.le_of_ble_eq_true rfl) (hW.nw 13 rfl) (fun _ h => h) hdg kk
theorem gf_X1_308 (hexec : p.tables.exec = Jvm.exec) (hb : c.code = cc) (hts : ∀ w ∈ lw_all, w.before args s = true) (hown : s.vm.findClass RX1 = some m.cls) (hW : wv g L σ s H locs) {i : Nat} (hpr : pr σ 80 i) (hdg : decode cc pc = .ok (.getfield 308, 3)) (kk : W p l e R s m args below meth c H locs cells slots Q (F0 m (pc + 3) ls (.int (gF_ σ 80 1 i) :: rest))) : W p l e R s m args below meth c H locs cells slots Q (F0 m pc ls (.ref (L 80 i) :: rest)) :=
  ww_getN (d := (0, 0, 0)) hexec hb hts hown hW 80 i 1 hpr (obv_0 rfl) rfl in_X16 rfl (Nat.le_of_ble_eq_true rfl) (hW.nw 50 rfl) (fun _ h => h) hdg kk
theorem gf_X1_325 (hexec : p.tables.exec = Jvm.exec) (hb : c.code = cc) (hts : ∀ w ∈ lw_all, w.before args s = true) (hown : s.vm.findClass RX1 = some m.cls) (hW : wv g L σ s H locs) {i : Nat} (hpr : pr σ 1 i) (hdg : decode cc pc = .ok (.getfield 325, 3)) (kk : W p l e R s m args below meth c H locs cells slots Q (F0 m (pc + 3) ls (.int (gF_ σ 1 33 i) :: rest))) : W p l e R s m args below meth c H locs cells slots Q (F0 m pc ls (.ref (L 1 i) :: rest)) :=
  ww_get (d := (0, 0, 0)) hexec hb hts hown hW 1 i 33 hpr (obv_0 rfl) rfl in_X1 rfl (Nat.le_of_ble_eq_true rfl) (hts _ q396) (fun _ h => h) hdg kk
theorem gf_X1_332 (hexec : p.tables.exec = Jvm.exec) (hb : c.code = cc) (hts : ∀ w ∈ lw_all, w.before args s = true) (hown : s.vm.findClass RX1 = some m.cls) (hW : wv g L σ s H locs) {i : Nat} (hpr : pr σ 87 i) (hdg : decode cc pc = .ok (.getfield 332, 3)) (kk : W p l e R s m args below meth c H locs cells slots Q (F0 m (pc + 3) ls (.int (gF_ σ 87 5 i) :: rest))) : W p l e R s m args below meth c H locs cells slots Q (F0 m pc ls (.ref (L 87 i) :: rest)) :=
  ww_getN (d := (0, 0, 0)) hexec hb hts hown hW 87 i 5 hpr (obv_0 rfl) rfl in_X5 rfl (Nat.le_of_ble_eq_true rfl) (hW.nw 14 rfl) (fun _ h => h) hdg kk
theorem gf_X1_397 (hexec : p.tables.exec = Jvm.exec) (hb : c.code = cc) (hts : ∀ w ∈ lw_all, w.before args s = true) (hown : s.vm.findClass RX1 = some m.cls) (hW : wv g L σ s H locs) {i : Nat} (hpr : pr σ 1 i) (hdg : decode cc pc = .ok (.getfield 397, 3)) (kk : W p l e R s m args below meth c H locs cells slots Q (F0 m (pc + 3) ls (.int (gF_ σ 1 36 i) :: rest))) : W p l e R s m args below meth c H locs cells slots Q (F0 m pc ls (.ref (L 1 i) :: rest)) :=
  ww_get (d := (0, 0, 0)) hexec hb hts hown hW 1 i 36 hpr (obv_0 rfl) rfl in_X1 rfl (Nat.le_of_ble_eq_true rfl) (hts _ q399) (fun _ h => h) hdg kk
theorem gf_X1_400 (hexec : p.tables.exec = Jvm.exec) (hb : c.code = cc) (hts : ∀ w ∈ lw_all, w.before args s = true) (hown : s.vm.findClass RX1 = some m.cls) (hW : wv g L σ s H locs) {i : Nat} (hpr : pr σ 83 i) (hfl : gP_ σ 83 (200 + 2) i ≠ 0) (hdg : decode cc pc = .ok (.getfield 400, 3)) (kk : W p l e R s m args below meth c H locs cells slots Q (F0 m (pc + 3) ls (.ref (L 78 i) :: rest))) : W p l e R s m args below meth c H locs cells slots Q (F0 m pc ls (.ref (L 83 i) :: rest)) :=
  ww_getN (d := (2, 78, 0)) hexec hb hts hown hW 83 i 2 hpr (obv_0 rfl) rfl in_X17 rfl (Nat.le_of_ble_eq_true rfl) (hW.nw 30 rfl) (fun _ h => h) hdg (by rw [fv_p (fun z => by cases z) hfl]; exact kk)
theorem gf_X1_407 (hexec : p.tables.exec = Jvm.exec) (hb : c.code = cc) (hts : ∀ w ∈ lw_all, w.before args s = true) (hown : s.vm.findClass RX1 = some m.cls) (hW : wv g L σ s H locs) {i : Nat} (hpr : pr σ 83 i) (hdg : decode cc pc = .ok (.getfield 407, 3)) (kk : W p l e R s m args below meth c H locs cells slots Q (F0 m (pc + 3) ls (.int (gF_ σ 83 0 i) :: rest))) : W p l e R s m args below meth c H locs cells slots Q (F0 m pc ls (.ref (L 83 i) :: rest)) :=
  ww_getN (d := (0, 0, 0)) hexec hb hts hown hW 83 i 0 hpr (obv_0 rfl) rfl in_X17 rfl (Nat.le_of_ble_eq_true rfl) (hW.nw 28 rfl) (fun _ h => h) hdg kk
theorem gf_X1_409 (hexec : p.tables.exec = Jvm.exec) (hb : c.code = cc) (hts : ∀ w ∈ lw_all, w.before args s = true) (hown : s.vm.findClass RX1 = some m.cls) (hW : wv g L σ s H locs) {i : Nat} (hpr : pr σ 83 i) (hdg : decode cc pc = .ok (.getfield 409, 3)) (kk : W p l e R s m args below meth c H locs cells slots Q (F0 m (pc + 3) ls (.int (gF_ σ 83 1 i) :: rest))) : W p l e R s m args below meth c H locs cells slots Q (F0 m pc ls (.ref (L 83 i) :: rest)) :=
  ww_getN (d := (0, 0, 0)) hexec hb hts hown hW 83 i 1 hpr (obv_0 rfl) rfl in_X17 rfl (Nat.le_of_ble_eq_true rfl) (hW.nw 29 rfl) (fun _ h => h) hdg kk
theorem gf_X1_414 (hexec : p.tables.exec = Jvm.exec) (hb : c.code = cc) (hts : ∀ w ∈ lw_all, w.before args s = true) (hown : s.vm.findClass RX1 = some m.cls) (hW : wv g L σ s H locs) {i : Nat} (hpr : pr σ 1 i) (hdg : decode cc pc = .ok (.getfield 414, 3)) (kk : W p l e R s m args below meth c H locs cells slots Q (F0 m (pc + 3) ls (.int (gF_ σ 1 35 i) :: rest))) : W p l e R s m args below meth c H locs cells slots Q (F0 m pc ls (.ref (L 1 i) :: rest)) :=
  ww_get (d := (0, 0, 0)) hexec hb hts hown hW 1 i 35 hpr (obv_0 rfl) rfl in_X1 rfl (Nat.le_of_ble_eq_true rfl) (hts _ q398) (fun _ h => h) hdg kk
theorem gf_X1_416 (hexec : p.tables.exec = Jvm.exec) (hb : c.code = cc) (hts : ∀ w ∈ lw_all, w.before args s = true) (hown : s.vm.findClass RX1 = some m.cls) (hW : wv g L σ s H locs) {i : Nat} (hpr : pr σ 83 i) (hdg : decode cc pc = .ok (.getfield 416, 3)) (kk : W p l e R s m args below meth c H locs cells slots Q (F0 m (pc + 3) ls (.int (gF_ σ 83 3 i) :: rest))) : W p l e R s m args below meth c H locs cells slots Q (F0 m pc ls (.ref (L 83 i) :: rest)) :=
  ww_getN (d := (0, 0, 0)) hexec hb hts hown hW 83 i 3 hpr (obv_0 rfl) rfl in_X17 rfl (Nat.le_of_ble_eq_true rfl) (hW.nw 31 rfl) (fun _ h => h) hdg kk
theorem gf_X1_434 (hexec : p.tables.exec = Jvm.exec) (hb : c.code = cc) (hts : ∀ w ∈ lw_all, w.before args s = true) (hown : s.vm.findClass RX1 = some m.cls) (hW : wv g L σ s H locs) {i : Nat} (hpr : pr σ 80 i) (hfl : gP_ σ 80 (200 + 3) i ≠ 0) (hdg : decode cc pc = .ok (.getfield 434, 3)) (kk : W p l e R s m args below meth c H locs cells slots Q (F0 m (pc + 3) ls (.ref (L 81 i) :: rest))) : W p l e R s m args below meth c H locs cells slots Q (F0 m pc ls (.ref (L 80 i) :: rest)) :=
  ww_getN (d := (2, 81, 0)) hexec hb hts hown hW 80 i 3 hpr (obv_0 rfl) rfl in_X16 rfl (Nat.le_of_ble_eq_true rfl) (hW.nw 52 rfl) (fun _ h => h) hdg (by rw [fv_p (fun z => by cases z) hfl]; exact kk)
theorem gf_X1_437 (hexec : p.tables.exec = Jvm.exec) (hb : c.code = cc) (hts : ∀ w ∈ lw_all, w.before args s = true) (hown : s.vm.findClass RX1 = some m.cls) (hW : wv g L σ s H locs) {i : Nat} (hpr : pr σ 80 i) (hdg : decode cc pc = .ok (.getfield 437, 3)) (kk : W p l e R s m args below meth c H locs cells slots Q (F0 m (pc + 3) ls (.int (gF_ σ 80 2 i) :: rest))) : W p l e R s m args below meth c H locs cells slots Q (F0 m pc ls (.ref (L 80 i) :: rest)) :=
  ww_getN (d := (0, 0, 0)) hexec hb hts hown hW 80 i 2 hpr (obv_0 rfl) rfl in_X16 rfl (Nat.le_of_ble_eq_true rfl) (hW.nw 51 rfl) (fun _ h => h) hdg kk
theorem gf_X1_449 (hexec : p.tables.exec = Jvm.exec) (hb : c.code = cc) (hts : ∀ w ∈ lw_all, w.before args s = true) (hown : s.vm.findClass RX1 = some m.cls) (hW : wv g L σ s H locs) {i : Nat} (hpr : pr σ 65 i) (hfl : gP_ σ 65 (200 + 0) i ≠ 0) (hdg : decode cc pc = .ok (.getfield 449, 3)) (kk : W p l e R s m args below meth c H locs cells slots Q (F0 m (pc + 3) ls (.ref (L 66 0) :: rest))) : W p l e R s m args below meth c H locs cells slots Q (F0 m pc ls (.ref (L 65 i) :: rest)) :=
  ww_getN (d := (1, 66, 0)) hexec hb hts hown hW 65 i 0 hpr (obv_0 rfl) rfl in_X4 rfl (Nat.le_of_ble_eq_true rfl) (hW.nw 11 rfl) (fun _ h => h) hdg (by rw [fv_p (fun z => by cases z) hfl]; exact kk)
theorem gf_X1_462 (hexec : p.tables.exec = Jvm.exec) (hb : c.code = cc) (hts : ∀ w ∈ lw_all, w.before args s = true) (hown : s.vm.findClass RX1 = some m.cls) (hW : wv g L σ s H locs) {i : Nat} (hpr : pr σ 1 i) (hdg : decode cc pc = .ok (.getfield 462, 3)) (kk : W p l e R s m args below meth c H locs cells slots Q (F0 m (pc + 3) ls (.int (gF_ σ 1 37 i) :: rest))) : W p l e R s m args below meth c H locs cells slots Q (F0 m pc ls (.ref (L 1 i) :: rest)) :=
  ww_get (d := (0, 0, 0)) hexec hb hts hown hW 1 i 37 hpr (obv_0 rfl) rfl in_X1 rfl (Nat.le_of_ble_eq_true rfl) (hts _ q400) (fun _ h => h) hdg kk
theorem gf_X1_477 (hexec : p.tables.exec = Jvm.exec) (hb : c.code = cc) (hts : ∀ w ∈ lw_all, w.before args s = true) (hown : s.vm.findClass RX1 = some m.cls) (hW : wv g L σ s H locs) {i : Nat} (hpr : pr σ 86 i) (hdg : decode cc pc = .ok (.getfield 477, 3)) (kk : W p l e R s m args below meth c H locs cells slots Q (F0 m (pc + 3) ls (.int (gF_ σ 86 1 i) :: rest))) : W p l e R s m args below meth c H locs cells slots Q (F0 m pc ls (.ref (L 86 i) :: rest)) :=
  ww_getN (d := (0, 0, 0)) hexec hb hts hown hW 86 i 1 hpr (obv_0 rfl) rfl in_X21 rfl (Nat.le_of_ble_eq_true rfl) (hW.nw 74 rfl) (fun _ h => h) hdg kk
theorem gf_X1_479 (hexec : p.tables.exec = Jvm.exec) (hb : c.code = cc) (hts : ∀ w ∈ lw_all, w.before args s = true) (hown : s.vm.findClass RX1 = some m.cls) (hW : wv g L σ s H locs) {i : Nat} (hpr : pr σ 86 i) (hfl : gP_ σ 86 (200 + 0) i ≠ 0) (hdg : decode cc pc = .ok (.getfield 479, 3)) (kk : W p l e R s m args below meth c H locs cells slots Q (F0 m (pc + 3) ls (.ref (L 85 (gP_ σ 86 0 i)) :: rest))) : W p l e R s m args below meth c H locs cells slots Q (F0 m pc ls (.ref (L 86 i) :: rest)) :=
  ww_getN (d := (3, 85, 0)) hexec hb hts hown hW 86 i 0 hpr (obv_0 rfl) rfl in_X21 rfl (Nat.le_of_ble_eq_true rfl) (hW.nw 73 rfl) (fun _ h => h) hdg (by rw [fv_p (fun z => by cases z) hfl]; exact kk)
theorem gf_X1_483 (hexec : p.tables.exec = Jvm.exec) (hb : c.code = cc) (hts : ∀ w ∈ lw_all, w.before args s = true) (hown : s.vm.findClass RX1 = some m.cls) (hW : wv g L σ s H locs) {i : Nat} (hpr : pr σ 85 i) (hdg : decode cc pc = .ok (.getfield 483, 3)) (kk : W p l e R s m args below meth c H locs cells slots Q (F0 m (pc + 3) ls (.int (gF_ σ 85 0 i) :: rest))) : W p l e R s m args below meth c H locs cells slots Q (F0 m pc ls (.ref (L 85 i) :: rest)) :=
  ww_getN (d := (0, 0, 0)) hexec hb hts hown hW 85 i 0 hpr (obv_0 rfl) rfl in_X20 rfl (Nat.le_of_ble_eq_true rfl) (hW.nw 70 rfl) (fun _ h => h) hdg kk
theorem gf_X1_486 (hexec : p.tables.exec = Jvm.exec) (hb : c.code = cc) (hts : ∀ w ∈ lw_all, w.before args s = true) (hown : s.vm.findClass RX1 = some m.cls) (hW : wv g L σ s H locs) {i : Nat} (hpr : pr σ 85 i) (hdg : decode cc pc = .ok (.getfield 486, 3)) (kk : W p l e R s m args below meth c H locs cells slots Q (F0 m (pc + 3) ls (.int (gF_ σ 85 1 i) :: rest))) : W p l e R s m args below meth c H locs cells slots Q (F0 m pc ls (.ref (L 85 i) :: rest)) :=
  ww_getN (d := (0, 0, 0)) hexec hb hts hown hW 85 i 1 hpr (obv_0 rfl) rfl in_X20 rfl (Nat.le_of_ble_eq_true rfl) (hW.nw 71 rfl) (fun _ h => h) hdg kk
theorem gf_X1_488 (hexec : p.tables.exec = Jvm.exec) (hb : c.code = cc) (hts : ∀ w ∈ lw_all, w.before args s = true) (hown : s.vm.findClass RX1 = some m.cls) (hW : wv g L σ s H locs) {i : Nat} (hpr : pr σ 85 i) (hdg : decode cc pc = .ok (.getfield 488, 3)) (kk : W p l e R s m args below meth c H locs cells slots Q (F0 m (pc + 3) ls (.int (gF_ σ 85 2 i) :: rest))) : W p l e R s m args below meth c H locs cells slots Q (F0 m pc ls (.ref (L 85 i) :: rest)) :=
  ww_getN (d := (0, 0, 0)) hexec hb hts hown hW 85 i 2 hpr (obv_0 rfl) rfl in_X20 rfl (Nat.le_of_ble_eq_true rfl) (hW.nw 72 rfl) (fun _ h => h) hdg kk
theorem gf_X17_12 (hexec : p.tables.exec = Jvm.exec) (hb : c.code = cc) (hts : ∀ w ∈ lw_all, w.before args s = true) (hown : s.vm.findClass RX17 = some m.cls) (hW : wv g L σ s H locs) {i : Nat} (hpr : pr σ 83 i) (hfl : gP_ σ 83 (200 + 2) i ≠ 0) (hdg : decode cc pc = .ok (.getfield 12, 3)) (kk : W p l e R s m args below meth c H locs cells slots Q (F0 m (pc + 3) ls (.ref (L 78 i) :: rest))) : W p l e R s m args below meth c H locs cells slots Q (F0 m pc ls (.ref (L 83 i) :: rest)) :=
  ww_get (d := (2, 78, 0)) hexec hb hts hown hW 83 i 2 hpr (obv_0 rfl) rfl in_X17 rfl (Nat.le_of_ble_eq_true rfl) (hts _ q700) (fun _ h => h) hdg (by rw [fv_p (fun z => by cases z) hfl]; exact kk)
theorem gf_X17_45 (hexec : p.tables.exec = Jvm.exec) (hb : c.code = cc) (hts : ∀ w ∈ lw_all, w.before args s = true) (hown : s.vm.findClass RX17 = some m.cls) (hW : wv g L σ s H locs) {i : Nat} (hpr : pr σ 84 i) (hdg : decode cc pc = .ok (.getfield 45, 3)) (kk : W p l e R s m args below meth c H locs cells slots Q (F0 m (pc + 3) ls (.int (gF_ σ 84 1 i) :: rest))) : W p l e R s m args below meth c H locs cells slots Q (F0 m pc ls (.ref (L 84 i) :: rest)) :=
  ww_getN (d := (0, 0, 0)) hexec hb hts hown hW 84 i 1 hpr (obv_0 rfl) rfl in_X18 rfl (Nat.le_of_ble_eq_true rfl) (hW.nw 27 rfl) (fun _ h => h) hdg kk
theorem gf_X17_48 (hexec : p.tables.exec = Jvm.exec) (hb : c.code = cc) (hts : ∀ w ∈ lw_all, w.before args s = true) (hown : s.vm.findClass RX17 = some m.cls) (hW : wv g L σ s H locs) {i : Nat} (hpr : pr σ 84 i) (hdg : decode cc pc = .ok (.getfield 48, 3)) (kk : W p l e R s m args below meth c H locs cells slots Q (F0 m (pc + 3) ls (.int (gF_ σ 84 0 i) :: rest))) : W p l e R s m args below meth c H locs cells slots Q (F0 m pc ls (.ref (L 84 i) :: rest)) :=
  ww_getN (d := (0, 0, 0)) hexec hb hts hown hW 84 i 0 hpr (obv_0 rfl) rfl in_X18 rfl (Nat.le_of_ble_eq_true rfl) (hW.nw 26 rfl) (fun _ h => h) hdg kk
theorem gf_X19_3 (hexec : p.tables.exec = Jvm.exec) (hb : c.code = cc) (hts : ∀ w ∈ lw_all, w.before args s = true) (hown : s.vm.findClass RX19 = some m.cls) (hW : wv g L σ s H locs) {i : Nat} (hpr : pr σ 92 i) (hfl : gP_ σ 92 (200 + 9) i ≠ 0) (hdg : decode cc pc = .ok (.getfield 3, 3)) (kk : W p l e R s m args below meth c H locs cells slots Q (F0 m (pc + 3) ls (.ref (L 1 0) :: rest))) : W p l e R s m args below meth c H locs cells slots Q (F0 m pc ls (.ref (L 92 i) :: rest)) :=
  ww_get (d := (1, 1, 0)) hexec hb hts hown hW 92 i 9 hpr (obv_0 rfl) rfl in_X19 rfl (Nat.le_of_ble_eq_true rfl) (hts _ q1346) (fun _ h => h) hdg (by rw [fv_p (fun z => by cases z) hfl]; exact kk)
theorem gf_X19_15 (hexec : p.tables.exec = Jvm.exec) (hb : c.code = cc) (hts : ∀ w ∈ lw_all, w.before args s = true) (hown : s.vm.findClass RX19 = some m.cls) (hW : wv g L σ s H locs) {i : Nat} (hpr : pr σ 92 i) (hfl : gP_ σ 92 (200 + 4) i ≠ 0) (hdg : decode cc pc = .ok (.getfield 15, 3)) (kk : W p l e R s m args below meth c H locs cells slots Q (F0 m (pc + 3) ls (.ref (L 95 i) :: rest))) : W p l e R s m args below meth c H locs cells slots Q (F0 m pc ls (.ref (L 92 i) :: rest)) :=
  ww_get (d := (2, 95, 0)) hexec hb hts hown hW 92 i 4 hpr (obv_0 rfl) rfl in_X19 rfl (Nat.le_of_ble_eq_true rfl) (hts _ q1339) (fun _ h => h) hdg (by rw [fv_p (fun z => by cases z) hfl]; exact kk)
theorem gf_X19_20 (hexec : p.tables.exec = Jvm.exec) (hb : c.code = cc) (hts : ∀ w ∈ lw_all, w.before args s = true) (hown : s.vm.findClass RX19 = some m.cls) (hW : wv g L σ s H locs) {i : Nat} (hpr : pr σ 92 i) (hdg : decode cc pc = .ok (.getfield 20, 3)) (kk : W p l e R s m args below meth c H locs cells slots Q (F0 m (pc + 3) ls (.int (gF_ σ 92 5 i) :: rest))) : W p l e R s m args below meth c H locs cells slots Q (F0 m pc ls (.ref (L 92 i) :: rest)) :=
  ww_get (d := (0, 0, 0)) hexec hb hts hown hW 92 i 5 hpr (obv_0 rfl) rfl in_X19 rfl (Nat.le_of_ble_eq_true rfl) (hts _ q1340) (fun _ h => h) hdg kk
theorem gf_X19_24 (hexec : p.tables.exec = Jvm.exec) (hb : c.code = cc) (hts : ∀ w ∈ lw_all, w.before args s = true) (hown : s.vm.findClass RX19 = some m.cls) (hW : wv g L σ s H locs) {i : Nat} (hpr : pr σ 92 i) (hdg : decode cc pc = .ok (.getfield 24, 3)) (kk : W p l e R s m args below meth c H locs cells slots Q (F0 m (pc + 3) ls (.int (gF_ σ 92 6 i) :: rest))) : W p l e R s m args below meth c H locs cells slots Q (F0 m pc ls (.ref (L 92 i) :: rest)) :=
  ww_get (d := (0, 0, 0)) hexec hb hts hown hW 92 i 6 hpr (obv_0 rfl) rfl in_X19 rfl (Nat.le_of_ble_eq_true rfl) (hts _ q1341) (fun _ h => h) hdg kk
theorem gf_X19_27 (hexec : p.tables.exec = Jvm.exec) (hb : c.code = cc) (hts : ∀ w ∈ lw_all, w.before args s = true) (hown : s.vm.findClass RX19 = some m.cls) (hW : wv g L σ s H locs) {i : Nat} (hpr : pr σ 92 i) (hdg : decode cc pc = .ok (.getfield 27, 3)) (kk : W p l e R s m args below meth c H locs cells slots Q (F0 m (pc + 3) ls (.int (gF_ σ 92 0 i) :: rest))) : W p l e R s m args below meth c H locs cells slots Q (F0 m pc ls (.ref (L 92 i) :: rest)) :=
  ww_get (d := (0, 0, 0)) hexec hb hts hown hW 92 i 0 hpr (obv_0 rfl) rfl in_X19 rfl (Nat.le_of_ble_eq_true rfl) (hts _ q1334) (fun _ h => h) hdg kk
theorem gf_X19_30 (hexec : p.tables.exec = Jvm.exec) (hb : c.code = cc) (hts : ∀ w ∈ lw_all, w.before args s = true) (hown : s.vm.findClass RX19 = some m.cls) (hW : wv g L σ s H locs) {i : Nat} (hpr : pr σ 92 i) (hdg : decode cc pc = .ok (.getfield 30, 3)) (kk : W p l e R s m args below meth c H locs cells slots Q (F0 m (pc + 3) ls (.int (gF_ σ 92 1 i) :: rest))) : W p l e R s m args below meth c H locs cells slots Q (F0 m pc ls (.ref (L 92 i) :: rest)) :=
  ww_get (d := (0, 0, 0)) hexec hb hts hown hW 92 i 1 hpr (obv_0 rfl) rfl in_X19 rfl (Nat.le_of_ble_eq_true rfl) (hts _ q1335) (fun _ h => h) hdg kk
theorem gf_X19_33 (hexec : p.tables.exec = Jvm.exec) (hb : c.code = cc) (hts : ∀ w ∈ lw_all, w.before args s = true) (hown : s.vm.findClass RX19 = some m.cls) (hW : wv g L σ s H locs) {i : Nat} (hpr : pr σ 92 i) (hfl : gP_ σ 92 (200 + 2) i ≠ 0) (hdg : decode cc pc = .ok (.getfield 33, 3)) (kk : W p l e R s m args below meth c H locs cells slots Q (F0 m (pc + 3) ls (.ref (L 93 i) :: rest))) : W p l e R s m args below meth c H locs cells slots Q (F0 m pc ls (.ref (L 92 i) :: rest)) :=
  ww_get (d := (2, 93, 0)) hexec hb hts hown hW 92 i 2 hpr (obv_0 rfl) rfl in_X19 rfl (Nat.le_of_ble_eq_true rfl) (hts _ q1336) (fun _ h => h) hdg (by rw [fv_p (fun z => by cases z) hfl]; exact kk)
theorem gf_X19_36 (hexec : p.tables.exec = Jvm.exec) (hb : c.code = cc) (hts : ∀ w ∈ lw_all, w.before args s = true) (hown : s.vm.findClass RX19 = some m.cls) (hW : wv g L σ s H locs) {i : Nat} (hpr : pr σ 92 i) (hfl : gP_ σ 92 (200 + 3) i ≠ 0) (hdg : decode cc pc = .ok (.getfield 36, 3)) (kk : W p l e R s m args below meth c H locs cells slots Q (F0 m (pc + 3) ls (.ref (L 94 i) :: rest))) : W p l e R s m args below meth c H locs cells slots Q (F0 m pc ls (.ref (L 92 i) :: rest)) :=
  ww_get (d := (2, 94, 0)) hexec hb hts hown hW 92 i 3 hpr (obv_0 rfl) rfl in_X19 rfl (Nat.le_of_ble_eq_true rfl) (hts _ q1337) (fun _ h => h) hdg (by rw [fv_p (fun z => by cases z) hfl]; exact kk)
theorem gf_X19_50 (hexec : p.tables.exec = Jvm.exec) (hb : c.code = cc) (hts : ∀ w ∈ lw_all, w.before args s = true) (hown : s.vm.findClass RX19 = some m.cls) (hW : wv g L σ s H locs) {i : Nat} (hpr : pr σ 1 i) (hfl : gP_ σ 1 (200 + 26) i ≠ 0) (hdg : decode cc pc = .ok (.getfield 50, 3)) (kk : W p l e R s m args below meth c H locs cells slots Q (F0 m (pc + 3) ls (.ref (L 36 0) :: rest))) : W p l e R s m args below meth c H locs cells slots Q (F0 m pc ls (.ref (L 1 i) :: rest)) :=
  ww_getN (d := (1, 36, 0)) hexec hb hts hown hW 1 i 26 hpr (obv_0 rfl) rfl in_X1 rfl (Nat.le_of_ble_eq_true rfl) (hW.nw 22 rfl) (fun _ h => h) hdg (by rw [fv_p (fun z => by cases z) hfl]; exact kk)
theorem gf_X19_59 (hexec : p.tables.exec = Jvm.exec) (hb : c.code = cc) (hts : ∀ w ∈ lw_all, w.before args s = true) (hown : s.vm.findClass RX19 = some m.cls) (hW : wv g L σ s H locs) {i : Nat} (hpr : pr σ 92 i) (hdg : decode cc pc = .ok (.getfield 59, 3)) (kk : W p l e R s m args below meth c H locs cells slots Q (F0 m (pc + 3) ls (.int (gF_ σ 92 8 i) :: rest))) : W p l e R s m args below meth c H locs cells slots Q (F0 m pc ls (.ref (L 92 i) :: rest)) :=
  ww_get (d := (0, 0, 0)) hexec hb hts hown hW 92 i 8 hpr (obv_0 rfl) rfl in_X19 rfl (Nat.le_of_ble_eq_true rfl) (hts _ q1345) (fun _ h => h) hdg kk
theorem gf_X19_83 (hexec : p.tables.exec = Jvm.exec) (hb : c.code = cc) (hts : ∀ w ∈ lw_all, w.before args s = true) (hown : s.vm.findClass RX19 = some m.cls) (hW : wv g L σ s H locs) {i : Nat} (hpr : pr σ 1 i) (hdg : decode cc pc = .ok (.getfield 83, 3)) (kk : W p l e R s m args below meth c H locs cells slots Q (F0 m (pc + 3) ls (.int (gF_ σ 1 33 i) :: rest))) : W p l e R s m args below meth c H locs cells slots Q (F0 m pc ls (.ref (L 1 i) :: rest)) :=
  ww_getN (d := (0, 0, 0)) hexec hb hts hown hW 1 i 33 hpr (obv_0 rfl) rfl in_X1 rfl (Nat.le_of_ble_eq_true rfl) (hW.nw 23 rfl) (fun _ h => h) hdg kk
theorem gf_X2_9 (hexec : p.tables.exec = Jvm.exec) (hb : c.code = cc) (hts : ∀ w ∈ lw_all, w.before args s = true) (hown : s.vm.findClass RX2 = some m.cls) (hW : wv g L σ s H locs) {i : Nat} (hpr : pr σ 50 i) (hfl : gP_ σ 50 (200 + 0) i ≠ 0) (hdg : decode cc pc = .ok (.getfield 9, 3)) (kk : W p l e R s m args below meth c H locs cells slots Q (F0 m (pc + 3) ls (.ref (L 51 i) :: rest))) : W p l e R s m args below meth c H locs cells slots Q (F0 m pc ls (.ref (L 50 i) :: rest)) :=
  ww_get (d := (2, 51, 0)) hexec hb hts hown hW 50 i 0 hpr (obv_0 rfl) rfl in_X2 rfl (Nat.le_of_ble_eq_true rfl) (hts _ q167) (fun _ h => h) hdg (by rw [fv_p (fun z => by cases z) hfl]; exact kk)
theorem gf_X2_15 (hexec : p.tables.exec = Jvm.exec) (hb : c.code = cc) (hts : ∀ w ∈ lw_all, w.before args s = true) (hown : s.vm.findClass RX2 = some m.cls) (hW : wv g L σ s H locs) {i : Nat} (hpr : pr σ 50 i) (hfl : gP_ σ 50 (200 + 1) i ≠ 0) (hdg : decode cc pc = .ok (.getfield 15, 3)) (kk : W p l e R s m args below meth c H locs cells slots Q (F0 m (pc + 3) ls (.ref (L 52 i) :: rest))) : W p l e R s m args below meth c H locs cells slots Q (F0 m pc ls (.ref (L 50 i) :: rest)) :=
  ww_get (d := (2, 52, 0)) hexec hb hts hown hW 50 i 1 hpr (obv_0 rfl) rfl in_X2 rfl (Nat.le_of_ble_eq_true rfl) (hts _ q169) (fun _ h => h) hdg (by rw [fv_p (fun z => by cases z) hfl]; exact kk)
theorem gf_X2_18 (hexec : p.tables.exec = Jvm.exec) (hb : c.code = cc) (hts : ∀ w ∈ lw_all, w.before args s = true) (hown : s.vm.findClass RX2 = some m.cls) (hW : wv g L σ s H locs) {i : Nat} (hpr : pr σ 50 i) (hfl : gP_ σ 50 (200 + 2) i ≠ 0) (hdg : decode cc pc = .ok (.getfield 18, 3)) (kk : W p l e R s m args below meth c H locs cells slots Q (F0 m (pc + 3) ls (.ref (L 53 i) :: rest))) : W p l e R s m args below meth c H locs cells slots Q (F0 m pc ls (.ref (L 50 i) :: rest)) :=
  ww_get (d := (2, 53, 0)) hexec hb hts hown hW 50 i 2 hpr (obv_0 rfl) rfl in_X2 rfl (Nat.le_of_ble_eq_true rfl) (hts _ q171) (fun _ h => h) hdg (by rw [fv_p (fun z => by cases z) hfl]; exact kk)
theorem gf_X2_21 (hexec : p.tables.exec = Jvm.exec) (hb : c.code = cc) (hts : ∀ w ∈ lw_all, w.before args s = true) (hown : s.vm.findClass RX2 = some m.cls) (hW : wv g L σ s H locs) {i : Nat} (hpr : pr σ 50 i) (hfl : gP_ σ 50 (200 + 3) i ≠ 0) (hdg : decode cc pc = .ok (.getfield 21, 3)) (kk : W p l e R s m args below meth c H locs cells slots Q (F0 m (pc + 3) ls (.ref (L 54 i) :: rest))) : W p l e R s m args below meth c H locs cells slots Q (F0 m pc ls (.ref (L 50 i) :: rest)) :=
  ww_get (d := (2, 54, 0)) hexec hb hts hown hW 50 i 3 hpr (obv_0 rfl) rfl in_X2 rfl (Nat.le_of_ble_eq_true rfl) (hts _ q173) (fun _ h => h) hdg (by rw [fv_p (fun z => by cases z) hfl]; exact kk)
theorem gf_X2_24 (hexec : p.tables.exec = Jvm.exec) (hb : c.code = cc) (hts : ∀ w ∈ lw_all, w.before args s = true) (hown : s.vm.findClass RX2 = some m.cls) (hW : wv g L σ s H locs) {i : Nat} (hpr : pr σ 50 i) (hfl : gP_ σ 50 (200 + 4) i ≠ 0) (hdg : decode cc pc = .ok (.getfield 24, 3)) (kk : W p l e R s m args below meth c H locs cells slots Q (F0 m (pc + 3) ls (.ref (L 55 i) :: rest))) : W p l e R s m args below meth c H locs cells slots Q (F0 m pc ls (.ref (L 50 i) :: rest)) :=
  ww_get (d := (2, 55, 0)) hexec hb hts hown hW 50 i 4 hpr (obv_0 rfl) rfl in_X2 rfl (Nat.le_of_ble_eq_true rfl) (hts _ q175) (fun _ h => h) hdg (by rw [fv_p (fun z => by cases z) hfl]; exact kk)
theorem gf_X2_27 (hexec : p.tables.exec = Jvm.exec) (hb : c.code = cc) (hts : ∀ w ∈ lw_all, w.before args s = true) (hown : s.vm.findClass RX2 = some m.cls) (hW : wv g L σ s H locs) {i : Nat} (hpr : pr σ 50 i) (hfl : gP_ σ 50 (200 + 5) i ≠ 0) (hdg : decode cc pc = .ok (.getfield 27, 3)) (kk : W p l e R s m args below meth c H locs cells slots Q (F0 m (pc + 3) ls (.ref (L 56 i) :: rest))) : W p l e R s m args below meth c H locs cells slots Q (F0 m pc ls (.ref (L 50 i) :: rest)) :=
  ww_get (d := (2, 56, 0)) hexec hb hts hown hW 50 i 5 hpr (obv_0 rfl) rfl in_X2 rfl (Nat.le_of_ble_eq_true rfl) (hts _ q177) (fun _ h => h) hdg (by rw [fv_p (fun z => by cases z) hfl]; exact kk)
theorem gf_X2_30 (hexec : p.tables.exec = Jvm.exec) (hb : c.code = cc) (hts : ∀ w ∈ lw_all, w.before args s = true) (hown : s.vm.findClass RX2 = some m.cls) (hW : wv g L σ s H locs) {i : Nat} (hpr : pr σ 50 i) (hfl : gP_ σ 50 (200 + 6) i ≠ 0) (hdg : decode cc pc = .ok (.getfield 30, 3)) (kk : W p l e R s m args below meth c H locs cells slots Q (F0 m (pc + 3) ls (.ref (L 57 i) :: rest))) : W p l e R s m args below meth c H locs cells slots Q (F0 m pc ls (.ref (L 50 i) :: rest)) :=
  ww_get (d := (2, 57, 0)) hexec hb hts hown hW 50 i 6 hpr (obv_0 rfl) rfl in_X2 rfl (Nat.le_of_ble_eq_true rfl) (hts _ q178) (fun _ h => h) hdg (by rw [fv_p (fun z => by cases z) hfl]; exact kk)
theorem gf_X2_33 (hexec : p.tables.exec = Jvm.exec) (hb : c.code = cc) (hts : ∀ w ∈ lw_all, w.before args s = true) (hown : s.vm.findClass RX2 = some m.cls) (hW : wv g L σ s H locs) {i : Nat} (hpr : pr σ 50 i) (hfl : gP_ σ 50 (200 + 7) i ≠ 0) (hdg : decode cc pc = .ok (.getfield 33, 3)) (kk : W p l e R s m args below meth c H locs cells slots Q (F0 m (pc + 3) ls (.ref (L 58 i) :: rest))) : W p l e R s m args below meth c H locs cells slots Q (F0 m pc ls (.ref (L 50 i) :: rest)) :=
  ww_get (d := (2, 58, 0)) hexec hb hts hown hW 50 i 7 hpr (obv_0 rfl) rfl in_X2 rfl (Nat.le_of_ble_eq_true rfl) (hts _ q179) (fun _ h => h) hdg (by rw [fv_p (fun z => by cases z) hfl]; exact kk)
theorem gf_X2_36 (hexec : p.tables.exec = Jvm.exec) (hb : c.code = cc) (hts : ∀ w ∈ lw_all, w.before args s = true) (hown : s.vm.findClass RX2 = some m.cls) (hW : wv g L σ s H locs) {i : Nat} (hpr : pr σ 50 i) (hfl : gP_ σ 50 (200 + 8) i ≠ 0) (hdg : decode cc pc = .ok (.getfield 36, 3)) (kk : W p l e R s m args below meth c H locs cells slots Q (F0 m (pc + 3) ls (.ref (L 59 i) :: rest))) : W p l e R s m args below meth c H locs cells slots Q (F0 m pc ls (.ref (L 50 i) :: rest)) :=
  ww_get (d := (2, 59, 0)) hexec hb hts hown hW 50 i 8 hpr (obv_0 rfl) rfl in_X2 rfl (Nat.le_of_ble_eq_true rfl) (hts _ q180) (fun _ h => h) hdg (by rw [fv_p (fun z => by cases z) hfl]; exact kk)
theorem gf_X3_9 (hexec : p.tables.exec = Jvm.exec) (hb : c.code = cc) (hts : ∀ w ∈ lw_all, w.before args s = true) (hown : s.vm.findClass RX3 = some m.cls) (hW : wv g L σ s H locs) {i : Nat} (hpr : pr σ 60 i) (hfl : gP_ σ 60 (200 + 0) i ≠ 0) (hdg : decode cc pc = .ok (.getfield 9, 3)) (kk : W p l e R s m args below meth c H locs cells slots Q (F0 m (pc + 3) ls (.ref (L 61 0) :: rest))) : W p l e R s m args below meth c H locs cells slots Q (F0 m pc ls (.ref (L 60 i) :: rest)) :=
  ww_get (d := (1, 61, 0)) hexec hb hts hown hW 60 i 0 hpr (obv_0 rfl) rfl in_X3 rfl (Nat.le_of_ble_eq_true rfl) (hts _ q208) (fun _ h => h) hdg (by rw [fv_p (fun z => by cases z) hfl]; exact kk)
theorem gf_X3_15 (hexec : p.tables.exec = Jvm.exec) (hb : c.code = cc) (hts : ∀ w ∈ lw_all, w.before args s = true) (hown : s.vm.findClass RX3 = some m.cls) (hW : wv g L σ s H locs) {i : Nat} (hpr : pr σ 60 i) (hfl : gP_ σ 60 (200 + 1) i ≠ 0) (hdg : decode cc pc = .ok (.getfield 15, 3)) (kk : W p l e R s m args below meth c H locs cells slots Q (F0 m (pc + 3) ls (.ref (L 62 0) :: rest))) : W p l e R s m args below meth c H locs cells slots Q (F0 m pc ls (.ref (L 60 i) :: rest)) :=
  ww_get (d := (1, 62, 0)) hexec hb hts hown hW 60 i 1 hpr (obv_0 rfl) rfl in_X3 rfl (Nat.le_of_ble_eq_true rfl) (hts _ q210) (fun _ h => h) hdg (by rw [fv_p (fun z => by cases z) hfl]; exact kk)
theorem gf_X3_18 (hexec : p.tables.exec = Jvm.exec) (hb : c.code = cc) (hts : ∀ w ∈ lw_all, w.before args s = true) (hown : s.vm.findClass RX3 = some m.cls) (hW : wv g L σ s H locs) {i : Nat} (hpr : pr σ 60 i) (hfl : gP_ σ 60 (200 + 2) i ≠ 0) (hdg : decode cc pc = .ok (.getfield 18, 3)) (kk : W p l e R s m args below meth c H locs cells slots Q (F0 m (pc + 3) ls (.ref (L 63 0) :: rest))) : W p l e R s m args below meth c H locs cells slots Q (F0 m pc ls (.ref (L 60 i) :: rest)) :=
  ww_get (d := (1, 63, 0)) hexec hb hts hown hW 60 i 2 hpr (obv_0 rfl) rfl in_X3 rfl (Nat.le_of_ble_eq_true rfl) (hts _ q212) (fun _ h => h) hdg (by rw [fv_p (fun z => by cases z) hfl]; exact kk)
theorem gf_X3_46 (hexec : p.tables.exec = Jvm.exec) (hb : c.code = cc) (hts : ∀ w ∈ lw_all, w.before args s = true) (hown : s.vm.findClass RX3 = some m.cls) (hW : wv g L σ s H locs) {i : Nat} (hpr : pr σ 60 i) (hdg : decode cc pc = .ok (.getfield 46, 3)) (kk : W p l e R s m args below meth c H locs cells slots Q (F0 m (pc + 3) ls (.int (gF_ σ 60 3 i) :: rest))) : W p l e R s m args below meth c H locs cells slots Q (F0 m pc ls (.ref (L 60 i) :: rest)) :=
  ww_get (d := (0, 0, 0)) hexec hb hts hown hW 60 i 3 hpr (obv_0 rfl) rfl in_X3 rfl (Nat.le_of_ble_eq_true rfl) (hts _ q213) (fun _ h => h) hdg kk
theorem gf_X4_9 (hexec : p.tables.exec = Jvm.exec) (hb : c.code = cc) (hts : ∀ w ∈ lw_all, w.before args s = true) (hown : s.vm.findClass RX4 = some m.cls) (hW : wv g L σ s H locs) {i : Nat} (hpr : pr σ 65 i) (hfl : gP_ σ 65 (200 + 0) i ≠ 0) (hdg : decode cc pc = .ok (.getfield 9, 3)) (kk : W p l e R s m args below meth c H locs cells slots Q (F0 m (pc + 3) ls (.ref (L 66 0) :: rest))) : W p l e R s m args below meth c H locs cells slots Q (F0 m pc ls (.ref (L 65 i) :: rest)) :=
  ww_get (d := (1, 66, 0)) hexec hb hts hown hW 65 i 0 hpr (obv_0 rfl) rfl in_X4 rfl (Nat.le_of_ble_eq_true rfl) (hts _ q231) (fun _ h => h) hdg (by rw [fv_p (fun z => by cases z) hfl]; exact kk)
theorem gf_X4_15 (hexec : p.tables.exec = Jvm.exec) (hb : c.code = cc) (hts : ∀ w ∈ lw_all, w.before args s = true) (hown : s.vm.findClass RX4 = some m.cls) (hW : wv g L σ s H locs) {i : Nat} (hpr : pr σ 65 i) (hfl : gP_ σ 65 (200 + 1) i ≠ 0) (hdg : decode cc pc = .ok (.getfield 15, 3)) (kk : W p l e R s m args below meth c H locs cells slots Q (F0 m (pc + 3) ls (.ref (L 67 0) :: rest))) : W p l e R s m args below meth c H locs cells slots Q (F0 m pc ls (.ref (L 65 i) :: rest)) :=
  ww_get (d := (1, 67, 0)) hexec hb hts hown hW 65 i 1 hpr (obv_0 rfl) rfl in_X4 rfl (Nat.le_of_ble_eq_true rfl) (hts _ q233) (fun _ h => h) hdg (by rw [fv_p (fun z => by cases z) hfl]; exact kk)
theorem gf_X5_3 (hexec : p.tables.exec = Jvm.exec) (hb : c.code = cc) (hts : ∀ w ∈ lw_all, w.before args s = true) (hown : s.vm.findClass RX5 = some m.cls) (hW : wv g L σ s H locs) {i : Nat} (hpr : pr σ 87 i) (hfl : gP_ σ 87 (200 + 11) i ≠ 0) (hdg : decode cc pc = .ok (.getfield 3, 3)) (kk : W p l e R s m args below meth c H locs cells slots Q (F0 m (pc + 3) ls (.ref (L 1 0) :: rest))) : W p l e R s m args below meth c H locs cells slots Q (F0 m pc ls (.ref (L 87 i) :: rest)) :=
  ww_get (d := (1, 1, 0)) hexec hb hts hown hW 87 i 11 hpr (obv_0 rfl) rfl in_X5 rfl (Nat.le_of_ble_eq_true rfl) (hts _ q332) (fun _ h => h) hdg (by rw [fv_p (fun z => by cases z) hfl]; exact kk)
theorem gf_X5_17 (hexec : p.tables.exec = Jvm.exec) (hb : c.code = cc) (hts : ∀ w ∈ lw_all, w.before args s = true) (hown : s.vm.findClass RX5 = some m.cls) (hW : wv g L σ s H locs) {i : Nat} (hpr : pr σ 87 i) (hfl : gP_ σ 87 (200 + 1) i ≠ 0) (hdg : decode cc pc = .ok (.getfield 17, 3)) (kk : W p l e R s m args below meth c H locs cells slots Q (F0 m (pc + 3) ls (.ref (L 88 i) :: rest))) : W p l e R s m args below meth c H locs cells slots Q (F0 m pc ls (.ref (L 87 i) :: rest)) :=
  ww_get (d := (2, 88, 0)) hexec hb hts hown hW 87 i 1 hpr (obv_0 rfl) rfl in_X5 rfl (Nat.le_of_ble_eq_true rfl) (hts _ q315) (fun _ h => h) hdg (by rw [fv_p (fun z => by cases z) hfl]; exact kk)
theorem gf_X5_20 (hexec : p.tables.exec = Jvm.exec) (hb : c.code = cc) (hts : ∀ w ∈ lw_all, w.before args s = true) (hown : s.vm.findClass RX5 = some m.cls) (hW : wv g L σ s H locs) {i : Nat} (hpr : pr σ 87 i) (hfl : gP_ σ 87 (200 + 2) i ≠ 0) (hdg : decode cc pc = .ok (.getfield 20, 3)) (kk : W p l e R s m args below meth c H locs cells slots Q (F0 m (pc + 3) ls (.ref (L 90 i) :: rest))) : W p l e R s m args below meth c H locs cells slots Q (F0 m pc ls (.ref (L 87 i) :: rest)) :=
  ww_get (d := (2, 90, 0)) hexec hb hts hown hW 87 i 2 hpr (obv_0 rfl) rfl in_X5 rfl (Nat.le_of_ble_eq_true rfl) (hts _ q316) (fun _ h => h) hdg (by rw [fv_p (fun z => by cases z) hfl]; exact kk)
theorem gf_X5_54 (hexec : p.tables.exec = Jvm.exec) (hb : c.code = cc) (hts : ∀ w ∈ lw_all, w.before args s = true) (hown : s.vm.findClass RX5 = some m.cls) (hW : wv g L σ s H locs) {i : Nat} (hpr : pr σ 87 i) (hdg : decode cc pc = .ok (.getfield 54, 3)) (kk : W p l e R s m args below meth c H locs cells slots Q (F0 m (pc + 3) ls (.int (gF_ σ 87 0 i) :: rest))) : W p l e R s m args below meth c H locs cells slots Q (F0 m pc ls (.ref (L 87 i) :: rest)) :=
  ww_get (d := (0, 0, 0)) hexec hb hts hown hW 87 i 0 hpr (obv_0 rfl) rfl in_X5 rfl (Nat.le_of_ble_eq_true rfl) (hts _ q314) (fun _ h => h) hdg kk
theorem gf_X5_111 (hexec : p.tables.exec = Jvm.exec) (hb : c.code = cc) (hts : ∀ w ∈ lw_all, w.before args s = true) (hown : s.vm.findClass RX5 = some m.cls) (hW : wv g L σ s H locs) {i : Nat} (hpr : pr σ 87 i) (hdg : decode cc pc = .ok (.getfield 111, 3)) (kk : W p l e R s m args below meth c H locs cells slots Q (F0 m (pc + 3) ls (.int (gF_ σ 87 8 i) :: rest))) : W p l e R s m args below meth c H locs cells slots Q (F0 m pc ls (.ref (L 87 i) :: rest)) :=
  ww_get (d := (0, 0, 0)) hexec hb hts hown hW 87 i 8 hpr (obv_0 rfl) rfl in_X5 rfl (Nat.le_of_ble_eq_true rfl) (hts _ q327) (fun _ h => h) hdg kk
theorem gf_X5_148 (hexec : p.tables.exec = Jvm.exec) (hb : c.code = cc) (hts : ∀ w ∈ lw_all, w.before args s = true) (hown : s.vm.findClass RX5 = some m.cls) (hW : wv g L σ s H locs) {i : Nat} (hpr : pr σ 1 i) (hfl : gP_ σ 1 (200 + 0) i ≠ 0) (hdg : decode cc pc = .ok (.getfield 148, 3)) (kk : W p l e R s m args below meth c H locs cells slots Q (F0 m (pc + 3) ls (.ref (L 10 0) :: rest))) : W p l e R s m args below meth c H locs cells slots Q (F0 m pc ls (.ref (L 1 i) :: rest)) :=
  ww_getN (d := (1, 10, 0)) hexec hb hts hown hW 1 i 0 hpr (obv_0 rfl) rfl in_X1 rfl (Nat.le_of_ble_eq_true rfl) (hW.nw 19 rfl) (fun _ h => h) hdg (by rw [fv_p (fun z => by cases z) hfl]; exact kk)
theorem pf_X1_121 (hexec : p.tables.exec = Jvm.exec) (hb : c.code = cc) (hts : ∀ w ∈ lw_all, w.before args s = true) (hown : s.vm.findClass RX1 = some m.cls) (hW : wv g L σ s H locs) {i : Nat} (hpr : pr σ 1 i) {n : Nat} (hpn : pr σ 32 n) (hfl : gP_ σ 1 (200 + 22) i ≠ 0) (hdg : decode cc pc = .ok (.putfield 121, 3)) (kk : ∀ (H1 : Heap) (locs1 : List Loc), wv g L (sP_ σ 1 22 i n) s H1 locs1 → W p l e R s m args below meth c H1 locs1 cells slots Q (F0 m (pc + 3) ls rest)) : W p l e R s m args below meth c H locs cells slots Q (F0 m pc ls (.ref (L 32 n) :: .ref (L 1 i) :: rest)) :=
  ww_putP hexec hb hts hown hW 1 i 22 hpr hpn hfl (Nat.le_of_ble_eq_true rfl) (Nat.le_of_ble_eq_true rfl) (obv_0 rfl) rfl in_X1 tyX1_ok nmX1 rfl (Nat.le_of_ble_eq_true rfl) (Or.inl (hts _ q382)) (fun _ h => h) rfl rfl (fun _ => rfl) (fun _ => rfl) hdg kk
theorem pf_X1_203 (hexec : p.tables.exec = Jvm.exec) (hb : c.code = cc) (hts : ∀ w ∈ lw_all, w.before args s = true) (hown : s.vm.findClass RX1 = some m.cls) (hW : wv g L σ s H locs) {i : Nat} (hpr : pr σ 80 i) {v : Int32} (hdg : decode cc pc = .ok (.putfield 203, 3)) (kk : ∀ (H1 : Heap) (locs1 : List Loc), wv g L (sF_ σ 80 5 i v) s H1 locs1 → W p l e R s m args below meth c H1 locs1 cells slots Q (F0 m (pc + 3) ls rest)) : W p l e R s m args below meth c H locs cells slots Q (F0 m pc ls (.int v :: .ref (L 80 i) :: rest)) :=
  ww_put hexec hb hts hown hW 80 i 5 hpr (obv_0 rfl) rfl in_X16 tyX16_ok nmX16 rfl (Nat.le_of_ble_eq_true rfl) (Or.inr ⟨_, va_Nw.use rfl (hW.nw 54 rfl)⟩) (fun _ h => h) rfl rfl rfl rfl hdg kk
theorem pf_X1_296 (hexec : p.tables.exec = Jvm.exec) (hb : c.code = cc) (hts : ∀ w ∈ lw_all, w.before args s = true) (hown : s.vm.findClass RX1 = some m.cls) (hW : wv g L σ s H locs) {i : Nat} (hpr : pr σ 1 i) {v : Int32} (hdg : decode cc pc = .ok (.putfield 296, 3)) (kk : ∀ (H1 : Heap) (locs1 : List Loc), wv g L (sF_ σ 1 34 i v) s H1 locs1 → W p l e R s m args below meth c H1 locs1 cells slots Q (F0 m (pc + 3) ls rest)) : W p l e R s m args below meth c H locs cells slots Q (F0 m pc ls (.int v :: .ref (L 1 i) :: rest)) :=
  ww_put hexec hb hts hown hW 1 i 34 hpr (obv_0 rfl) rfl in_X1 tyX1_ok nmX1 rfl (Nat.le_of_ble_eq_true rfl) (Or.inl (hts _ q397)) (fun _ h => h) rfl rfl rfl rfl hdg kk
theorem pf_X1_414 (hexec : p.tables.exec = Jvm.exec) (hb : c.code = cc) (hts : ∀ w ∈ lw_all, w.before args s = true) (hown : s.vm.findClass RX1 = some m.cls) (hW : wv g L σ s H locs) {i : Nat} (hpr : pr σ 1 i) {v : Int32} (hdg : decode cc pc = .ok (.putfield 414, 3)) (kk : ∀ (H1 : Heap) (locs1 : List Loc), wv g L (sF_ σ 1 35 i v) s H1 locs1 → W p l e R s m args below meth c H1 locs1 cells slots Q (F0 m (pc + 3) ls rest)) : W p l e R s m args below meth c H locs cells slots Q (F0 m pc ls (.int v :: .ref (L 1 i) :: rest)) :=
  ww_put hexec hb hts hown hW 1 i 35 hpr (obv_0 rfl) rfl in_X1 tyX1_ok nmX1 rfl (Nat.le_of_ble_eq_true rfl) (Or.inl (hts _ q398)) (fun _ h => h) rfl rfl rfl rfl hdg kk
theorem pf_X1_462 (hexec : p.tables.exec = Jvm.exec) (hb : c.code = cc) (hts : ∀ w ∈ lw_all, w.before args s = true) (hown : s.vm.findClass RX1 = some m.cls) (hW : wv g L σ s H locs) {i : Nat} (hpr : pr σ 1 i) {v : Int32} (hdg : decode cc pc = .ok (.putfield 462, 3)) (kk : ∀ (H1 : Heap) (locs1 : List Loc), wv g L (sF_ σ 1 37 i v) s H1 locs1 → W p l e R s m args below meth c H1 locs1 cells slots Q (F0 m (pc + 3) ls rest)) : W p l e R s m args below meth c H locs cells slots Q (F0 m pc ls (.int v :: .ref (L 1 i) :: rest)) :=
  ww_put hexec hb hts hown hW 1 i 37 hpr (obv_0 rfl) rfl in_X1 tyX1_ok nmX1 rfl (Nat.le_of_ble_eq_true rfl) (Or.inl (hts _ q400)) (fun _ h => h) rfl rfl rfl rfl hdg kk
theorem pf_X19_20 (hexec : p.tables.exec = Jvm.exec) (hb : c.code = cc) (hts : ∀ w ∈ lw_all, w.before args s = true) (hown : s.vm.findClass RX19 = some m.cls) (hW : wv g L σ s H locs) {i : Nat} (hpr : pr σ 92 i) {v : Int32} (hdg : decode cc pc = .ok (.putfield 20, 3)) (kk : ∀ (H1 : Heap) (locs1 : List Loc), wv g L (sF_ σ 92 5 i v) s H1 locs1 → W p l e R s m args below meth c H1 locs1 cells slots Q (F0 m (pc + 3) ls rest)) : W p l e R s m args below meth c H locs cells slots Q (F0 m pc ls (.int v :: .ref (L 92 i) :: rest)) :=
  ww_put hexec hb hts hown hW 92 i 5 hpr (obv_0 rfl) rfl in_X19 tyX19_ok nmX19 rfl (Nat.le_of_ble_eq_true rfl) (Or.inl (hts _ q1340)) (fun _ h => h) rfl rfl rfl rfl hdg kk
theorem pf_X19_24 (hexec : p.tables.exec = Jvm.exec) (hb : c.code = cc) (hts : ∀ w ∈ lw_all, w.before args s = true) (hown : s.vm.findClass RX19 = some m.cls) (hW : wv g L σ s H locs) {i : Nat} (hpr : pr σ 92 i) {v : Int32} (hdg : decode cc pc = .ok (.putfield 24, 3)) (kk : ∀ (H1 : Heap) (locs1 : List Loc), wv g L (sF_ σ 92 6 i v) s H1 locs1 → W p l e R s m args below meth c H1 locs1 cells slots Q (F0 m (pc + 3) ls rest)) : W p l e R s m args below meth c H locs cells slots Q (F0 m pc ls (.int v :: .ref (L 92 i) :: rest)) :=
  ww_put hexec hb hts hown hW 92 i 6 hpr (obv_0 rfl) rfl in_X19 tyX19_ok nmX19 rfl (Nat.le_of_ble_eq_true rfl) (Or.inl (hts _ q1341)) (fun _ h => h) rfl rfl rfl rfl hdg kk
theorem pf_X19_59 (hexec : p.tables.exec = Jvm.exec) (hb : c.code = cc) (hts : ∀ w ∈ lw_all, w.before args s = true) (hown : s.vm.findClass RX19 = some m.cls) (hW : wv g L σ s H locs) {i : Nat} (hpr : pr σ 92 i) {v : Int32} (hz : bz v) (hdg : decode cc pc = .ok (.putfield 59, 3)) (kk : ∀ (H1 : Heap) (locs1 : List Loc), wv g L (sF_ σ 92 8 i v) s H1 locs1 → W p l e R s m args below meth c H1 locs1 cells slots Q (F0 m (pc + 3) ls rest)) : W p l e R s m args below meth c H locs cells slots Q (F0 m pc ls (.int v :: .ref (L 92 i) :: rest)) :=
  ww_put hexec hb hts hown hW 92 i 8 hpr (obv_0 rfl) rfl in_X19 tyX19_ok nmX19 rfl (Nat.le_of_ble_eq_true rfl) (Or.inl (hts _ q1345)) (fun _ h => h) rfl rfl (bz_n hz) (bz_f hz) hdg kk
theorem pf_X19_67 (hexec : p.tables.exec = Jvm.exec) (hb : c.code = cc) (hts : ∀ w ∈ lw_all, w.before args s = true) (hown : s.vm.findClass RX19 = some m.cls) (hW : wv g L σ s H locs) {i : Nat} (hpr : pr σ 92 i) {v : Int32} (hz : bz v) (hdg : decode cc pc = .ok (.putfield 67, 3)) (kk : ∀ (H1 : Heap) (locs1 : List Loc), wv g L (sF_ σ 92 7 i v) s H1 locs1 → W p l e R s m args below meth c H1 locs1 cells slots Q (F0 m (pc + 3) ls rest)) : W p l e R s m args below meth c H locs cells slots Q (F0 m pc ls (.int v :: .ref (L 92 i) :: rest)) :=
  ww_put hexec hb hts hown hW 92 i 7 hpr (obv_0 rfl) rfl in_X19 tyX19_ok nmX19 rfl (Nat.le_of_ble_eq_true rfl) (Or.inl (hts _ q1343)) (fun _ h => h) rfl rfl (bz_n hz) (bz_f hz) hdg kk
theorem pf_X3_46 (hexec : p.tables.exec = Jvm.exec) (hb : c.code = cc) (hts : ∀ w ∈ lw_all, w.before args s = true) (hown : s.vm.findClass RX3 = some m.cls) (hW : wv g L σ s H locs) {i : Nat} (hpr : pr σ 60 i) {v : Int32} (hdg : decode cc pc = .ok (.putfield 46, 3)) (kk : ∀ (H1 : Heap) (locs1 : List Loc), wv g L (sF_ σ 60 3 i v) s H1 locs1 → W p l e R s m args below meth c H1 locs1 cells slots Q (F0 m (pc + 3) ls rest)) : W p l e R s m args below meth c H locs cells slots Q (F0 m pc ls (.int v :: .ref (L 60 i) :: rest)) :=
  ww_put hexec hb hts hown hW 60 i 3 hpr (obv_0 rfl) rfl in_X3 tyX3_ok nmX3 rfl (Nat.le_of_ble_eq_true rfl) (Or.inl (hts _ q213)) (fun _ h => h) rfl rfl rfl rfl hdg kk
theorem pf_X5_111 (hexec : p.tables.exec = Jvm.exec) (hb : c.code = cc) (hts : ∀ w ∈ lw_all, w.before args s = true) (hown : s.vm.findClass RX5 = some m.cls) (hW : wv g L σ s H locs) {i : Nat} (hpr : pr σ 87 i) {v : Int32} (hdg : decode cc pc = .ok (.putfield 111, 3)) (kk : ∀ (H1 : Heap) (locs1 : List Loc), wv g L (sF_ σ 87 8 i v) s H1 locs1 → W p l e R s m args below meth c H1 locs1 cells slots Q (F0 m (pc + 3) ls rest)) : W p l e R s m args below meth c H locs cells slots Q (F0 m pc ls (.int v :: .ref (L 87 i) :: rest)) :=
  ww_put hexec hb hts hown hW 87 i 8 hpr (obv_0 rfl) rfl in_X5 tyX5_ok nmX5 rfl (Nat.le_of_ble_eq_true rfl) (Or.inl (hts _ q327)) (fun _ h => h) rfl rfl rfl rfl hdg kk
end
theorem hd_X1_next : yX1_next.cls = RX1 ∧ yX1_next.cls ≠ "java/lang/invoke/MethodHandle" ∧ yX1_next.cls ≠ "java/lang/invoke/VarHandle" ∧ (parseMethodDescriptor yX1_next.desc).map (fun d => d.parameters.length) = some 2 := by decide +kernel
theorem hd_X1_isTold : yX1_isTold.cls = RX1 ∧ yX1_isTold.cls ≠ "java/lang/invoke/MethodHandle" ∧ yX1_isTold.cls ≠ "java/lang/invoke/VarHandle" ∧ (parseMethodDescriptor yX1_isTold.desc).map (fun d => d.parameters.length) = some 1 := by decide +kernel
theorem hd_X1_mayTurn : yX1_mayTurn.cls = RX1 ∧ yX1_mayTurn.cls ≠ "java/lang/invoke/MethodHandle" ∧ yX1_mayTurn.cls ≠ "java/lang/invoke/VarHandle" ∧ (parseMethodDescriptor yX1_mayTurn.desc).map (fun d => d.parameters.length) = some 1 := by decide +kernel
theorem hd_X1_joined : yX1_joined.cls = RX1 ∧ yX1_joined.cls ≠ "java/lang/invoke/MethodHandle" ∧ yX1_joined.cls ≠ "java/lang/invoke/VarHandle" ∧ (parseMethodDescriptor yX1_joined.desc).map (fun d => d.parameters.length) = some 0 := by decide +kernel
theorem hd_X1_in : yX1_in.cls = RX1 ∧ yX1_in.cls ≠ "java/lang/invoke/MethodHandle" ∧ yX1_in.cls ≠ "java/lang/invoke/VarHandle" ∧ (parseMethodDescriptor yX1_in.desc).map (fun d => d.parameters.length) = some 3 := by decide +kernel
theorem hd_X1_wrong : yX1_wrong.cls = RX1 ∧ yX1_wrong.cls ≠ "java/lang/invoke/MethodHandle" ∧ yX1_wrong.cls ≠ "java/lang/invoke/VarHandle" ∧ (parseMethodDescriptor yX1_wrong.desc).map (fun d => d.parameters.length) = some 1 := by decide +kernel
theorem hd_X1_isHerds : yX1_isHerds.cls = RX1 ∧ yX1_isHerds.cls ≠ "java/lang/invoke/MethodHandle" ∧ yX1_isHerds.cls ≠ "java/lang/invoke/VarHandle" ∧ (parseMethodDescriptor yX1_isHerds.desc).map (fun d => d.parameters.length) = some 1 := by decide +kernel
theorem hd_X1_was : yX1_was.cls = RX1 ∧ yX1_was.cls ≠ "java/lang/invoke/MethodHandle" ∧ yX1_was.cls ≠ "java/lang/invoke/VarHandle" ∧ (parseMethodDescriptor yX1_was.desc).map (fun d => d.parameters.length) = some 2 := by decide +kernel
theorem hd_X1_family : yX1_family.cls = RX1 ∧ yX1_family.cls ≠ "java/lang/invoke/MethodHandle" ∧ yX1_family.cls ≠ "java/lang/invoke/VarHandle" ∧ (parseMethodDescriptor yX1_family.desc).map (fun d => d.parameters.length) = some 1 := by decide +kernel
theorem hd_X1_village : yX1_village.cls = RX1 ∧ yX1_village.cls ≠ "java/lang/invoke/MethodHandle" ∧ yX1_village.cls ≠ "java/lang/invoke/VarHandle" ∧ (parseMethodDescriptor yX1_village.desc).map (fun d => d.parameters.length) = some 2 := by decide +kernel
theorem hd_X1_isBeside : yX1_isBeside.cls = RX1 ∧ yX1_isBeside.cls ≠ "java/lang/invoke/MethodHandle" ∧ yX1_isBeside.cls ≠ "java/lang/invoke/VarHandle" ∧ (parseMethodDescriptor yX1_isBeside.desc).map (fun d => d.parameters.length) = some 2 := by decide +kernel
theorem hd_X1_cropName : yX1_cropName.cls = RX1 ∧ yX1_cropName.cls ≠ "java/lang/invoke/MethodHandle" ∧ yX1_cropName.cls ≠ "java/lang/invoke/VarHandle" ∧ (parseMethodDescriptor yX1_cropName.desc).map (fun d => d.parameters.length) = some 1 := by decide +kernel
theorem hd_X1_isDigit : yX1_isDigit.cls = RX1 ∧ yX1_isDigit.cls ≠ "java/lang/invoke/MethodHandle" ∧ yX1_isDigit.cls ≠ "java/lang/invoke/VarHandle" ∧ (parseMethodDescriptor yX1_isDigit.desc).map (fun d => d.parameters.length) = some 1 := by decide +kernel
theorem hd_X1_toldName : yX1_toldName.cls = RX1 ∧ yX1_toldName.cls ≠ "java/lang/invoke/MethodHandle" ∧ yX1_toldName.cls ≠ "java/lang/invoke/VarHandle" ∧ (parseMethodDescriptor yX1_toldName.desc).map (fun d => d.parameters.length) = some 1 := by decide +kernel
theorem hd_X1_herdAt : yX1_herdAt.cls = RX1 ∧ yX1_herdAt.cls ≠ "java/lang/invoke/MethodHandle" ∧ yX1_herdAt.cls ≠ "java/lang/invoke/VarHandle" ∧ (parseMethodDescriptor yX1_herdAt.desc).map (fun d => d.parameters.length) = some 1 := by decide +kernel
theorem hd_X1_some : yX1_some.cls = RX1 ∧ yX1_some.cls ≠ "java/lang/invoke/MethodHandle" ∧ yX1_some.cls ≠ "java/lang/invoke/VarHandle" ∧ (parseMethodDescriptor yX1_some.desc).map (fun d => d.parameters.length) = some 1 := by decide +kernel
theorem hd_X1_debt : yX1_debt.cls = RX1 ∧ yX1_debt.cls ≠ "java/lang/invoke/MethodHandle" ∧ yX1_debt.cls ≠ "java/lang/invoke/VarHandle" ∧ (parseMethodDescriptor yX1_debt.desc).map (fun d => d.parameters.length) = some 1 := by decide +kernel
theorem hd_X1_watched : yX1_watched.cls = RX1 ∧ yX1_watched.cls ≠ "java/lang/invoke/MethodHandle" ∧ yX1_watched.cls ≠ "java/lang/invoke/VarHandle" ∧ (parseMethodDescriptor yX1_watched.desc).map (fun d => d.parameters.length) = some 1 := by decide +kernel
theorem hd_X1_join : yX1_join.cls = RX1 ∧ yX1_join.cls ≠ "java/lang/invoke/MethodHandle" ∧ yX1_join.cls ≠ "java/lang/invoke/VarHandle" ∧ (parseMethodDescriptor yX1_join.desc).map (fun d => d.parameters.length) = some 2 := by decide +kernel
theorem hd_X1_away : yX1_away.cls = RX1 ∧ yX1_away.cls ≠ "java/lang/invoke/MethodHandle" ∧ yX1_away.cls ≠ "java/lang/invoke/VarHandle" ∧ (parseMethodDescriptor yX1_away.desc).map (fun d => d.parameters.length) = some 3 := by decide +kernel
theorem hd_X1_nights : yX1_nights.cls = RX1 ∧ yX1_nights.cls ≠ "java/lang/invoke/MethodHandle" ∧ yX1_nights.cls ≠ "java/lang/invoke/VarHandle" ∧ (parseMethodDescriptor yX1_nights.desc).map (fun d => d.parameters.length) = some 2 := by decide +kernel
theorem hd_X1_isAway : yX1_isAway.cls = RX1 ∧ yX1_isAway.cls ≠ "java/lang/invoke/MethodHandle" ∧ yX1_isAway.cls ≠ "java/lang/invoke/VarHandle" ∧ (parseMethodDescriptor yX1_isAway.desc).map (fun d => d.parameters.length) = some 2 := by decide +kernel
theorem hd_X1_claimAt : yX1_claimAt.cls = RX1 ∧ yX1_claimAt.cls ≠ "java/lang/invoke/MethodHandle" ∧ yX1_claimAt.cls ≠ "java/lang/invoke/VarHandle" ∧ (parseMethodDescriptor yX1_claimAt.desc).map (fun d => d.parameters.length) = some 1 := by decide +kernel
theorem hd_X1_fund : yX1_fund.cls = RX1 ∧ yX1_fund.cls ≠ "java/lang/invoke/MethodHandle" ∧ yX1_fund.cls ≠ "java/lang/invoke/VarHandle" ∧ (parseMethodDescriptor yX1_fund.desc).map (fun d => d.parameters.length) = some 1 := by decide +kernel
theorem hd_X1_hour : yX1_hour.cls = RX1 ∧ yX1_hour.cls ≠ "java/lang/invoke/MethodHandle" ∧ yX1_hour.cls ≠ "java/lang/invoke/VarHandle" ∧ (parseMethodDescriptor yX1_hour.desc).map (fun d => d.parameters.length) = some 1 := by decide +kernel
theorem hd_X1_windOf : yX1_windOf.cls = RX1 ∧ yX1_windOf.cls ≠ "java/lang/invoke/MethodHandle" ∧ yX1_windOf.cls ≠ "java/lang/invoke/VarHandle" ∧ (parseMethodDescriptor yX1_windOf.desc).map (fun d => d.parameters.length) = some 1 := by decide +kernel
theorem hd_X1_wireAt : yX1_wireAt.cls = RX1 ∧ yX1_wireAt.cls ≠ "java/lang/invoke/MethodHandle" ∧ yX1_wireAt.cls ≠ "java/lang/invoke/VarHandle" ∧ (parseMethodDescriptor yX1_wireAt.desc).map (fun d => d.parameters.length) = some 1 := by decide +kernel
theorem hd_X1_tripAt : yX1_tripAt.cls = RX1 ∧ yX1_tripAt.cls ≠ "java/lang/invoke/MethodHandle" ∧ yX1_tripAt.cls ≠ "java/lang/invoke/VarHandle" ∧ (parseMethodDescriptor yX1_tripAt.desc).map (fun d => d.parameters.length) = some 1 := by decide +kernel
theorem hd_X1_apart : yX1_apart.cls = RX1 ∧ yX1_apart.cls ≠ "java/lang/invoke/MethodHandle" ∧ yX1_apart.cls ≠ "java/lang/invoke/VarHandle" ∧ (parseMethodDescriptor yX1_apart.desc).map (fun d => d.parameters.length) = some 2 := by decide +kernel
theorem hd_X1_weight : yX1_weight.cls = RX1 ∧ yX1_weight.cls ≠ "java/lang/invoke/MethodHandle" ∧ yX1_weight.cls ≠ "java/lang/invoke/VarHandle" ∧ (parseMethodDescriptor yX1_weight.desc).map (fun d => d.parameters.length) = some 1 := by decide +kernel
theorem hd_X14_of : yX14_of.cls = RX14 ∧ yX14_of.cls ≠ "java/lang/invoke/MethodHandle" ∧ yX14_of.cls ≠ "java/lang/invoke/VarHandle" ∧ (parseMethodDescriptor yX14_of.desc).map (fun d => d.parameters.length) = some 2 := by decide +kernel
theorem hd_X15_of : yX15_of.cls = RX15 ∧ yX15_of.cls ≠ "java/lang/invoke/MethodHandle" ∧ yX15_of.cls ≠ "java/lang/invoke/VarHandle" ∧ (parseMethodDescriptor yX15_of.desc).map (fun d => d.parameters.length) = some 2 := by decide +kernel
theorem hd_X17_known : yX17_known.cls = RX17 ∧ yX17_known.cls ≠ "java/lang/invoke/MethodHandle" ∧ yX17_known.cls ≠ "java/lang/invoke/VarHandle" ∧ (parseMethodDescriptor yX17_known.desc).map (fun d => d.parameters.length) = some 1 := by decide +kernel
theorem hd_X17_latest : yX17_latest.cls = RX17 ∧ yX17_latest.cls ≠ "java/lang/invoke/MethodHandle" ∧ yX17_latest.cls ≠ "java/lang/invoke/VarHandle" ∧ (parseMethodDescriptor yX17_latest.desc).map (fun d => d.parameters.length) = some 0 := by decide +kernel
theorem hd_X19_isBetter : yX19_isBetter.cls = RX19 ∧ yX19_isBetter.cls ≠ "java/lang/invoke/MethodHandle" ∧ yX19_isBetter.cls ≠ "java/lang/invoke/VarHandle" ∧ (parseMethodDescriptor yX19_isBetter.desc).map (fun d => d.parameters.length) = some 0 := by decide +kernel
theorem hd_X19_may : yX19_may.cls = RX19 ∧ yX19_may.cls ≠ "java/lang/invoke/MethodHandle" ∧ yX19_may.cls ≠ "java/lang/invoke/VarHandle" ∧ (parseMethodDescriptor yX19_may.desc).map (fun d => d.parameters.length) = some 3 := by decide +kernel
theorem hd_X19_takes : yX19_takes.cls = RX19 ∧ yX19_takes.cls ≠ "java/lang/invoke/MethodHandle" ∧ yX19_takes.cls ≠ "java/lang/invoke/VarHandle" ∧ (parseMethodDescriptor yX19_takes.desc).map (fun d => d.parameters.length) = some 2 := by decide +kernel
theorem hd_X2_like : yX2_like.cls = RX2 ∧ yX2_like.cls ≠ "java/lang/invoke/MethodHandle" ∧ yX2_like.cls ≠ "java/lang/invoke/VarHandle" ∧ (parseMethodDescriptor yX2_like.desc).map (fun d => d.parameters.length) = some 1 := by decide +kernel
theorem hd_X2_frightens : yX2_frightens.cls = RX2 ∧ yX2_frightens.cls ≠ "java/lang/invoke/MethodHandle" ∧ yX2_frightens.cls ≠ "java/lang/invoke/VarHandle" ∧ (parseMethodDescriptor yX2_frightens.desc).map (fun d => d.parameters.length) = some 2 := by decide +kernel
theorem hd_X2_isOpen : yX2_isOpen.cls = RX2 ∧ yX2_isOpen.cls ≠ "java/lang/invoke/MethodHandle" ∧ yX2_isOpen.cls ≠ "java/lang/invoke/VarHandle" ∧ (parseMethodDescriptor yX2_isOpen.desc).map (fun d => d.parameters.length) = some 1 := by decide +kernel
theorem hd_X2_fence : yX2_fence.cls = RX2 ∧ yX2_fence.cls ≠ "java/lang/invoke/MethodHandle" ∧ yX2_fence.cls ≠ "java/lang/invoke/VarHandle" ∧ (parseMethodDescriptor yX2_fence.desc).map (fun d => d.parameters.length) = some 2 := by decide +kernel
theorem hd_X2_isRipe : yX2_isRipe.cls = RX2 ∧ yX2_isRipe.cls ≠ "java/lang/invoke/MethodHandle" ∧ yX2_isRipe.cls ≠ "java/lang/invoke/VarHandle" ∧ (parseMethodDescriptor yX2_isRipe.desc).map (fun d => d.parameters.length) = some 1 := by decide +kernel
theorem hd_X2_fence_2 : yX2_fence_2.cls = RX2 ∧ yX2_fence_2.cls ≠ "java/lang/invoke/MethodHandle" ∧ yX2_fence_2.cls ≠ "java/lang/invoke/VarHandle" ∧ (parseMethodDescriptor yX2_fence_2.desc).map (fun d => d.parameters.length) = some 3 := by decide +kernel
theorem hd_X2_loses : yX2_loses.cls = RX2 ∧ yX2_loses.cls ≠ "java/lang/invoke/MethodHandle" ∧ yX2_loses.cls ≠ "java/lang/invoke/VarHandle" ∧ (parseMethodDescriptor yX2_loses.desc).map (fun d => d.parameters.length) = some 2 := by decide +kernel
theorem hd_X2_wears : yX2_wears.cls = RX2 ∧ yX2_wears.cls ≠ "java/lang/invoke/MethodHandle" ∧ yX2_wears.cls ≠ "java/lang/invoke/VarHandle" ∧ (parseMethodDescriptor yX2_wears.desc).map (fun d => d.parameters.length) = some 1 := by decide +kernel
theorem hd_X2_without : yX2_without.cls = RX2 ∧ yX2_without.cls ≠ "java/lang/invoke/MethodHandle" ∧ yX2_without.cls ≠ "java/lang/invoke/VarHandle" ∧ (parseMethodDescriptor yX2_without.desc).map (fun d => d.parameters.length) = some 1 := by decide +kernel
theorem hd_X2_builder : yX2_builder.cls = RX2 ∧ yX2_builder.cls ≠ "java/lang/invoke/MethodHandle" ∧ yX2_builder.cls ≠ "java/lang/invoke/VarHandle" ∧ (parseMethodDescriptor yX2_builder.desc).map (fun d => d.parameters.length) = some 3 := by decide +kernel
theorem hd_X2_ripe : yX2_ripe.cls = RX2 ∧ yX2_ripe.cls ≠ "java/lang/invoke/MethodHandle" ∧ yX2_ripe.cls ≠ "java/lang/invoke/VarHandle" ∧ (parseMethodDescriptor yX2_ripe.desc).map (fun d => d.parameters.length) = some 1 := by decide +kernel
theorem hd_X3_nearest : yX3_nearest.cls = RX3 ∧ yX3_nearest.cls ≠ "java/lang/invoke/MethodHandle" ∧ yX3_nearest.cls ≠ "java/lang/invoke/VarHandle" ∧ (parseMethodDescriptor yX3_nearest.desc).map (fun d => d.parameters.length) = some 0 := by decide +kernel
theorem hd_X4_from : yX4_from.cls = RX4 ∧ yX4_from.cls ≠ "java/lang/invoke/MethodHandle" ∧ yX4_from.cls ≠ "java/lang/invoke/VarHandle" ∧ (parseMethodDescriptor yX4_from.desc).map (fun d => d.parameters.length) = some 2 := by decide +kernel
theorem hd_X5_like : yX5_like.cls = RX5 ∧ yX5_like.cls ≠ "java/lang/invoke/MethodHandle" ∧ yX5_like.cls ≠ "java/lang/invoke/VarHandle" ∧ (parseMethodDescriptor yX5_like.desc).map (fun d => d.parameters.length) = some 2 := by decide +kernel
theorem hd_X5_now : yX5_now.cls = RX5 ∧ yX5_now.cls ≠ "java/lang/invoke/MethodHandle" ∧ yX5_now.cls ≠ "java/lang/invoke/VarHandle" ∧ (parseMethodDescriptor yX5_now.desc).map (fun d => d.parameters.length) = some 0 := by decide +kernel
theorem hd_X5_isSmall : yX5_isSmall.cls = RX5 ∧ yX5_isSmall.cls ≠ "java/lang/invoke/MethodHandle" ∧ yX5_isSmall.cls ≠ "java/lang/invoke/VarHandle" ∧ (parseMethodDescriptor yX5_isSmall.desc).map (fun d => d.parameters.length) = some 1 := by decide +kernel
theorem hd_X1_watch : yX1_watch.cls = RX1 ∧ yX1_watch.cls ≠ "java/lang/invoke/MethodHandle" ∧ yX1_watch.cls ≠ "java/lang/invoke/VarHandle" ∧ (parseMethodDescriptor yX1_watch.desc).map (fun d => d.parameters.length) = some 1 := by decide +kernel
theorem hd_X1_harms : yX1_harms.cls = RX1 ∧ yX1_harms.cls ≠ "java/lang/invoke/MethodHandle" ∧ yX1_harms.cls ≠ "java/lang/invoke/VarHandle" ∧ (parseMethodDescriptor yX1_harms.desc).map (fun d => d.parameters.length) = some 3 := by decide +kernel
theorem hd_X1_turn : yX1_turn.cls = RX1 ∧ yX1_turn.cls ≠ "java/lang/invoke/MethodHandle" ∧ yX1_turn.cls ≠ "java/lang/invoke/VarHandle" ∧ (parseMethodDescriptor yX1_turn.desc).map (fun d => d.parameters.length) = some 1 := by decide +kernel
theorem hd_X1_count : yX1_count.cls = RX1 ∧ yX1_count.cls ≠ "java/lang/invoke/MethodHandle" ∧ yX1_count.cls ≠ "java/lang/invoke/VarHandle" ∧ (parseMethodDescriptor yX1_count.desc).map (fun d => d.parameters.length) = some 1 := by decide +kernel
theorem hd_X1_cell : yX1_cell.cls = RX1 ∧ yX1_cell.cls ≠ "java/lang/invoke/MethodHandle" ∧ yX1_cell.cls ≠ "java/lang/invoke/VarHandle" ∧ (parseMethodDescriptor yX1_cell.desc).map (fun d => d.parameters.length) = some 1 := by decide +kernel
theorem hd_X1_field : yX1_field.cls = RX1 ∧ yX1_field.cls ≠ "java/lang/invoke/MethodHandle" ∧ yX1_field.cls ≠ "java/lang/invoke/VarHandle" ∧ (parseMethodDescriptor yX1_field.desc).map (fun d => d.parameters.length) = some 4 := by decide +kernel
theorem hd_X1_stalks : yX1_stalks.cls = RX1 ∧ yX1_stalks.cls ≠ "java/lang/invoke/MethodHandle" ∧ yX1_stalks.cls ≠ "java/lang/invoke/VarHandle" ∧ (parseMethodDescriptor yX1_stalks.desc).map (fun d => d.parameters.length) = some 1 := by decide +kernel
theorem hd_X1_edge : yX1_edge.cls = RX1 ∧ yX1_edge.cls ≠ "java/lang/invoke/MethodHandle" ∧ yX1_edge.cls ≠ "java/lang/invoke/VarHandle" ∧ (parseMethodDescriptor yX1_edge.desc).map (fun d => d.parameters.length) = some 2 := by decide +kernel
theorem hd_X1_fenced : yX1_fenced.cls = RX1 ∧ yX1_fenced.cls ≠ "java/lang/invoke/MethodHandle" ∧ yX1_fenced.cls ≠ "java/lang/invoke/VarHandle" ∧ (parseMethodDescriptor yX1_fenced.desc).map (fun d => d.parameters.length) = some 2 := by decide +kernel
theorem hd_X1_fear : yX1_fear.cls = RX1 ∧ yX1_fear.cls ≠ "java/lang/invoke/MethodHandle" ∧ yX1_fear.cls ≠ "java/lang/invoke/VarHandle" ∧ (parseMethodDescriptor yX1_fear.desc).map (fun d => d.parameters.length) = some 1 := by decide +kernel
theorem hd_X1_like : yX1_like.cls = RX1 ∧ yX1_like.cls ≠ "java/lang/invoke/MethodHandle" ∧ yX1_like.cls ≠ "java/lang/invoke/VarHandle" ∧ (parseMethodDescriptor yX1_like.desc).map (fun d => d.parameters.length) = some 2 := by decide +kernel
theorem hd_X1_watch_2 : yX1_watch_2.cls = RX1 ∧ yX1_watch_2.cls ≠ "java/lang/invoke/MethodHandle" ∧ yX1_watch_2.cls ≠ "java/lang/invoke/VarHandle" ∧ (parseMethodDescriptor yX1_watch_2.desc).map (fun d => d.parameters.length) = some 2 := by decide +kernel
theorem hd_X1_harm : yX1_harm.cls = RX1 ∧ yX1_harm.cls ≠ "java/lang/invoke/MethodHandle" ∧ yX1_harm.cls ≠ "java/lang/invoke/VarHandle" ∧ (parseMethodDescriptor yX1_harm.desc).map (fun d => d.parameters.length) = some 4 := by decide +kernel
theorem hd_X1_claim : yX1_claim.cls = RX1 ∧ yX1_claim.cls ≠ "java/lang/invoke/MethodHandle" ∧ yX1_claim.cls ≠ "java/lang/invoke/VarHandle" ∧ (parseMethodDescriptor yX1_claim.desc).map (fun d => d.parameters.length) = some 2 := by decide +kernel
theorem hd_X1_rivers : yX1_rivers.cls = RX1 ∧ yX1_rivers.cls ≠ "java/lang/invoke/MethodHandle" ∧ yX1_rivers.cls ≠ "java/lang/invoke/VarHandle" ∧ (parseMethodDescriptor yX1_rivers.desc).map (fun d => d.parameters.length) = some 0 := by decide +kernel
theorem hd_X1_wind : yX1_wind.cls = RX1 ∧ yX1_wind.cls ≠ "java/lang/invoke/MethodHandle" ∧ yX1_wind.cls ≠ "java/lang/invoke/VarHandle" ∧ (parseMethodDescriptor yX1_wind.desc).map (fun d => d.parameters.length) = some 2 := by decide +kernel
theorem hd_X1_called : yX1_called.cls = RX1 ∧ yX1_called.cls ≠ "java/lang/invoke/MethodHandle" ∧ yX1_called.cls ≠ "java/lang/invoke/VarHandle" ∧ (parseMethodDescriptor yX1_called.desc).map (fun d => d.parameters.length) = some 2 := by decide +kernel
theorem hd_X1_lease : yX1_lease.cls = RX1 ∧ yX1_lease.cls ≠ "java/lang/invoke/MethodHandle" ∧ yX1_lease.cls ≠ "java/lang/invoke/VarHandle" ∧ (parseMethodDescriptor yX1_lease.desc).map (fun d => d.parameters.length) = some 2 := by decide +kernel
theorem hd_X1_rent : yX1_rent.cls = RX1 ∧ yX1_rent.cls ≠ "java/lang/invoke/MethodHandle" ∧ yX1_rent.cls ≠ "java/lang/invoke/VarHandle" ∧ (parseMethodDescriptor yX1_rent.desc).map (fun d => d.parameters.length) = some 2 := by decide +kernel
theorem hd_X1_onward : yX1_onward.cls = RX1 ∧ yX1_onward.cls ≠ "java/lang/invoke/MethodHandle" ∧ yX1_onward.cls ≠ "java/lang/invoke/VarHandle" ∧ (parseMethodDescriptor yX1_onward.desc).map (fun d => d.parameters.length) = some 3 := by decide +kernel
theorem hd_X19_goes : yX19_goes.cls = RX19 ∧ yX19_goes.cls ≠ "java/lang/invoke/MethodHandle" ∧ yX19_goes.cls ≠ "java/lang/invoke/VarHandle" ∧ (parseMethodDescriptor yX19_goes.desc).map (fun d => d.parameters.length) = some 2 := by decide +kernel
theorem hd_X2_step : yX2_step.cls = RX2 ∧ yX2_step.cls ≠ "java/lang/invoke/MethodHandle" ∧ yX2_step.cls ≠ "java/lang/invoke/VarHandle" ∧ (parseMethodDescriptor yX2_step.desc).map (fun d => d.parameters.length) = some 3 := by decide +kernel
theorem hd_X3_from : yX3_from.cls = RX3 ∧ yX3_from.cls ≠ "java/lang/invoke/MethodHandle" ∧ yX3_from.cls ≠ "java/lang/invoke/VarHandle" ∧ (parseMethodDescriptor yX3_from.desc).map (fun d => d.parameters.length) = some 4 := by decide +kernel
theorem hd_X3_goes : yX3_goes.cls = RX3 ∧ yX3_goes.cls ≠ "java/lang/invoke/MethodHandle" ∧ yX3_goes.cls ≠ "java/lang/invoke/VarHandle" ∧ (parseMethodDescriptor yX3_goes.desc).map (fun d => d.parameters.length) = some 4 := by decide +kernel
theorem hd_X1_goes : yX1_goes.cls = RX1 ∧ yX1_goes.cls ≠ "java/lang/invoke/MethodHandle" ∧ yX1_goes.cls ≠ "java/lang/invoke/VarHandle" ∧ (parseMethodDescriptor yX1_goes.desc).map (fun d => d.parameters.length) = some 3 := by decide +kernel
theorem hd_X1_land : yX1_land.cls = RX1 ∧ yX1_land.cls ≠ "java/lang/invoke/MethodHandle" ∧ yX1_land.cls ≠ "java/lang/invoke/VarHandle" ∧ (parseMethodDescriptor yX1_land.desc).map (fun d => d.parameters.length) = some 2 := by decide +kernel
theorem hd_X1_fence : yX1_fence.cls = RX1 ∧ yX1_fence.cls ≠ "java/lang/invoke/MethodHandle" ∧ yX1_fence.cls ≠ "java/lang/invoke/VarHandle" ∧ (parseMethodDescriptor yX1_fence.desc).map (fun d => d.parameters.length) = some 4 := by decide +kernel
theorem hd_X1_cost : yX1_cost.cls = RX1 ∧ yX1_cost.cls ≠ "java/lang/invoke/MethodHandle" ∧ yX1_cost.cls ≠ "java/lang/invoke/VarHandle" ∧ (parseMethodDescriptor yX1_cost.desc).map (fun d => d.parameters.length) = some 2 := by decide +kernel
theorem hd_X1_way : yX1_way.cls = RX1 ∧ yX1_way.cls ≠ "java/lang/invoke/MethodHandle" ∧ yX1_way.cls ≠ "java/lang/invoke/VarHandle" ∧ (parseMethodDescriptor yX1_way.desc).map (fun d => d.parameters.length) = some 3 := by decide +kernel
theorem hd_X1_near : yX1_near.cls = RX1 ∧ yX1_near.cls ≠ "java/lang/invoke/MethodHandle" ∧ yX1_near.cls ≠ "java/lang/invoke/VarHandle" ∧ (parseMethodDescriptor yX1_near.desc).map (fun d => d.parameters.length) = some 2 := by decide +kernel
theorem hd_X1_comes : yX1_comes.cls = RX1 ∧ yX1_comes.cls ≠ "java/lang/invoke/MethodHandle" ∧ yX1_comes.cls ≠ "java/lang/invoke/VarHandle" ∧ (parseMethodDescriptor yX1_comes.desc).map (fun d => d.parameters.length) = some 2 := by decide +kernel
theorem hd_X1_foretells : yX1_foretells.cls = RX1 ∧ yX1_foretells.cls ≠ "java/lang/invoke/MethodHandle" ∧ yX1_foretells.cls ≠ "java/lang/invoke/VarHandle" ∧ (parseMethodDescriptor yX1_foretells.desc).map (fun d => d.parameters.length) = some 1 := by decide +kernel
theorem hd_X1_foretold : yX1_foretold.cls = RX1 ∧ yX1_foretold.cls ≠ "java/lang/invoke/MethodHandle" ∧ yX1_foretold.cls ≠ "java/lang/invoke/VarHandle" ∧ (parseMethodDescriptor yX1_foretold.desc).map (fun d => d.parameters.length) = some 2 := by decide +kernel
theorem hd_X1_pushed : yX1_pushed.cls = RX1 ∧ yX1_pushed.cls ≠ "java/lang/invoke/MethodHandle" ∧ yX1_pushed.cls ≠ "java/lang/invoke/VarHandle" ∧ (parseMethodDescriptor yX1_pushed.desc).map (fun d => d.parameters.length) = some 3 := by decide +kernel
theorem hd_X1_post : yX1_post.cls = RX1 ∧ yX1_post.cls ≠ "java/lang/invoke/MethodHandle" ∧ yX1_post.cls ≠ "java/lang/invoke/VarHandle" ∧ (parseMethodDescriptor yX1_post.desc).map (fun d => d.parameters.length) = some 2 := by decide +kernel
theorem hd_X1_places : yX1_places.cls = RX1 ∧ yX1_places.cls ≠ "java/lang/invoke/MethodHandle" ∧ yX1_places.cls ≠ "java/lang/invoke/VarHandle" ∧ (parseMethodDescriptor yX1_places.desc).map (fun d => d.parameters.length) = some 2 := by decide +kernel
theorem hd_X1_mayBe : yX1_mayBe.cls = RX1 ∧ yX1_mayBe.cls ≠ "java/lang/invoke/MethodHandle" ∧ yX1_mayBe.cls ≠ "java/lang/invoke/VarHandle" ∧ (parseMethodDescriptor yX1_mayBe.desc).map (fun d => d.parameters.length) = some 3 := by decide +kernel
theorem hd_X1_spots : yX1_spots.cls = RX1 ∧ yX1_spots.cls ≠ "java/lang/invoke/MethodHandle" ∧ yX1_spots.cls ≠ "java/lang/invoke/VarHandle" ∧ (parseMethodDescriptor yX1_spots.desc).map (fun d => d.parameters.length) = some 2 := by decide +kernel
theorem hd_X1_causeOf : yX1_causeOf.cls = RX1 ∧ yX1_causeOf.cls ≠ "java/lang/invoke/MethodHandle" ∧ yX1_causeOf.cls ≠ "java/lang/invoke/VarHandle" ∧ (parseMethodDescriptor yX1_causeOf.desc).map (fun d => d.parameters.length) = some 1 := by decide +kernel
theorem hd_X1_causes : yX1_causes.cls = RX1 ∧ yX1_causes.cls ≠ "java/lang/invoke/MethodHandle" ∧ yX1_causes.cls ≠ "java/lang/invoke/VarHandle" ∧ (parseMethodDescriptor yX1_causes.desc).map (fun d => d.parameters.length) = some 2 := by decide +kernel
theorem hd_X1_fix : yX1_fix.cls = RX1 ∧ yX1_fix.cls ≠ "java/lang/invoke/MethodHandle" ∧ yX1_fix.cls ≠ "java/lang/invoke/VarHandle" ∧ (parseMethodDescriptor yX1_fix.desc).map (fun d => d.parameters.length) = some 3 := by decide +kernel
theorem hd_X1_cause : yX1_cause.cls = RX1 ∧ yX1_cause.cls ≠ "java/lang/invoke/MethodHandle" ∧ yX1_cause.cls ≠ "java/lang/invoke/VarHandle" ∧ (parseMethodDescriptor yX1_cause.desc).map (fun d => d.parameters.length) = some 1 := by decide +kernel
def m_X1_next_L89 (t0 : Int32) : Option Int32 := some t0
def m_X1_next_L74 (t0 : Int32) : Option Int32 := some t0
def m_X1_next_L60 (t0 : Int32) : Option Int32 := some t0
def m_X1_next_L48 (t0 : Int32) : Option Int32 := some t0
def m_X1_next (a1 : Int32) (a2 : Int32) : Option Int32 := if a2 = (0 : Int32) then if (a1 / (8 : Int32)) ≤ 0 then m_X1_next_L48 (-1 : Int32) else m_X1_next_L48 (a1 - (8 : Int32)) else if a2 = (1 : Int32) then if (a1 - a1 / (8 : Int32) * (8 : Int32)) ≤ 0 then m_X1_next_L60 (-1 : Int32) else m_X1_next_L60 (a1 - (1 : Int32)) else if a2 = (2 : Int32) then if (7 : Int32) ≤ (a1 - a1 / (8 : Int32) * (8 : Int32)) then m_X1_next_L74 (-1 : Int32) else m_X1_next_L74 (a1 + (1 : Int32)) else if (7 : Int32) ≤ (a1 / (8 : Int32)) then m_X1_next_L89 (-1 : Int32) else m_X1_next_L89 (a1 + (8 : Int32))
def m_X1_isTold_L28 (k4 : st_T → Int32 → Int32 → Int32 → Option Int32) (σ : st_T) (x1 : Int32) (x3 : Int32) (t0 : Int32) (t1 : Int32) : Option Int32 := k4 σ x1 (t0 ||| t1) (x3 + (1 : Int32))
def m_X1_isTold_L4 : Nat → st_T → Int32 → Int32 → Int32 → Option Int32
  | 0, _, _, _, _ => none
  | n + 1, σ, x1, x2, x3 => if (gF_ σ 1 34 0) ≤ x3 then if bz x2 then some x2 else none else if inb x3 10 then if (gA_ σ 21 0 x3.toNatClampNeg) = x1 then (m_X1_isTold_L28 (m_X1_isTold_L4 n)) σ x1 x3 x2 (1 : Int32) else (m_X1_isTold_L28 (m_X1_isTold_L4 n)) σ x1 x3 x2 (0 : Int32) else none
def m_X1_isTold (σ : st_T) (a1 : Int32) : Option Int32 := (m_X1_isTold_L4 fu_) σ a1 (0 : Int32) (0 : Int32)
def m_X1_mayTurn_L22 (σ : st_T) (t0 : Int32) : Option Int32 := if bz t0 then some t0 else none
def m_X1_mayTurn_L21 (k22 : st_T → Int32 → Option Int32) (σ : st_T)  : Option Int32 := k22 σ (0 : Int32)
def m_X1_mayTurn (σ : st_T) (a1 : Int32) : Option Int32 := if inb a1 10 then if (gA_ σ 35 0 a1.toNatClampNeg) = 0 then (m_X1_isTold σ a1).bind fun v6 => if v6 = 0 then m_X1_mayTurn_L22 σ (1 : Int32) else (m_X1_mayTurn_L21 m_X1_mayTurn_L22) σ else (m_X1_mayTurn_L21 m_X1_mayTurn_L22) σ else none
def m_X1_joined_L36 (k13 : st_T → Int32 → Int32 → Int32 → Option Int32) (σ : st_T) (x3 : Int32) (x4 : Int32) (t0 : Int32) (t1 : Int32) : Option Int32 := k13 σ (t0 + t1) x3 (x4 + (1 : Int32))
def m_X1_joined_L13 : Nat → st_T → Int32 → Int32 → Int32 → Option Int32
  | 0, _, _, _, _ => none
  | n + 1, σ, x1, x3, x4 => if x3 ≤ x4 then some x1 else if inb x4 10 then if (gA_ σ 36 0 x4.toNatClampNeg) = 0 then (m_X1_joined_L36 (m_X1_joined_L13 n)) σ x3 x4 x1 (0 : Int32) else (m_X1_joined_L36 (m_X1_joined_L13 n)) σ x3 x4 x1 (1 : Int32) else none
def m_X1_joined (σ : st_T)  : Option Int32 := (m_X1_joined_L13 fu_) σ (0 : Int32) (10 : Int32) (0 : Int32)
def m_X1_in_L15 (t0 : Int32) : Option Int32 := if bz t0 then some t0 else none
def m_X1_in_L14 (k15 : Int32 → Option Int32)  : Option Int32 := k15 (0 : Int32)
def m_X1_in (a1 : Int32) (a2 : Int32) (a3 : Int32) : Option Int32 := if a1 < a2 then (m_X1_in_L14 m_X1_in_L15) else if a3 < a1 then (m_X1_in_L14 m_X1_in_L15) else m_X1_in_L15 (1 : Int32)
def m_X1_wrong (a1 : Int32) : Option (Nat ⊕ Unit) := if a1 = 0 then some (.inr ()) else some (.inl 1)
def m_X1_isHerds_L90 (k44 : st_T → Int32 → Int32 → Int32 → Int32 → Option Int32) (σ : st_T) (x1 : Int32) (x3 : Int32) (x4 : Int32) (t0 : Int32) (t1 : Int32) : Option Int32 := k44 σ x1 (t0 ||| t1) x3 (x4 + (1 : Int32))
def m_X1_isHerds_L44 (k4 : st_T → Int32 → Int32 → Int32 → Option Int32) : Nat → st_T → Int32 → Int32 → Int32 → Int32 → Option Int32
  | 0, _, _, _, _, _ => none
  | n + 1, σ, x1, x2, x3, x4 => if alg_ σ 70 71 0 x3 then if (gP_ σ 71 (2 + x3.toNatClampNeg) 0) < gN_ σ 80 then if (gF_ σ 80 5 (gP_ σ 71 (2 + x3.toNatClampNeg) 0)) ≤ x4 then k4 σ x1 x2 (x3 + (1 : Int32)) else if alg_ σ 70 71 0 x3 then if (gP_ σ 71 (2 + x3.toNatClampNeg) 0) < gN_ σ 82 then if inb x4 20 then if (gA_ σ 82 (gP_ σ 71 (2 + x3.toNatClampNeg) 0) x4.toNatClampNeg) = x1 then (m_X1_isHerds_L90 (m_X1_isHerds_L44 k4 n)) σ x1 x3 x4 x2 (1 : Int32) else (m_X1_isHerds_L90 (m_X1_isHerds_L44 k4 n)) σ x1 x3 x4 x2 (0 : Int32) else none else none else none else none else none
def m_X1_isHerds_L39 (k4 : st_T → Int32 → Int32 → Int32 → Option Int32) (σ : st_T) (x1 : Int32) (x3 : Int32) (t0 : Int32) (t1 : Int32) : Option Int32 := (m_X1_isHerds_L44 k4 fu_) σ x1 (t0 ||| t1) x3 (0 : Int32)
def m_X1_isHerds_L4 : Nat → st_T → Int32 → Int32 → Int32 → Option Int32
  | 0, _, _, _, _ => none
  | n + 1, σ, x1, x2, x3 => if (gF_ σ 70 2 0) ≤ x3 then if bz x2 then some x2 else none else if alg_ σ 70 71 0 x3 then if (gP_ σ 71 (2 + x3.toNatClampNeg) 0) < gN_ σ 80 then if (gF_ σ 80 0 (gP_ σ 71 (2 + x3.toNatClampNeg) 0)) = x1 then (m_X1_isHerds_L39 (m_X1_isHerds_L4 n)) σ x1 x3 x2 (1 : Int32) else (m_X1_isHerds_L39 (m_X1_isHerds_L4 n)) σ x1 x3 x2 (0 : Int32) else none else none
def m_X1_isHerds (σ : st_T) (a1 : Int32) : Option Int32 := (m_X1_isHerds_L4 fu_) σ a1 (0 : Int32) (0 : Int32)
def m_X1_was (σ : st_T) (a1 : Int32) (a2 : Int32) : Option (Int32 × st_T) := if inb a1 64 then lt_ (sE_ σ 51 0 a1.toNatClampNeg a2) fun σ2 => lt_ (sE_ σ2 54 0 a1.toNatClampNeg (0 : Int32)) fun σ4 => some ((gA_ σ 51 0 a1.toNatClampNeg), σ4) else none
def m_X1_family_L15 (t0 : Int32) : Option (Nat ⊕ Unit) := (m_X1_wrong t0).bind fun o3 => sm_ o3 (fun k4 => some (.inl k4)) (fun v5 => some (.inr ()))
def m_X1_family (a1 : Int32) : Option (Nat ⊕ Unit) := (m_X1_in a1 (0 : Int32) (9 : Int32)).bind fun v8 => if v8 = 0 then m_X1_family_L15 (1 : Int32) else m_X1_family_L15 (0 : Int32)
def m_X1_village_L18 (σ : st_T) (x1 : Int32) (x2 : Int32) (t0 : Int32) : Option ((Nat ⊕ Int32) × st_T) := (m_X1_wrong t0).bind fun o3 => sm_ o3 (fun k4 => some ((.inl k4), σ)) (fun v5 => if inb x1 10 then lt_ (sE_ σ 20 0 x1.toNatClampNeg x2) fun σ7 => some ((.inr (gA_ σ 20 0 x1.toNatClampNeg)), σ7) else none)
def m_X1_village (σ : st_T) (a1 : Int32) (a2 : Int32) : Option ((Nat ⊕ Int32) × st_T) := (m_X1_family a1).bind fun o11 => sm_ o11 (fun k12 => some ((.inl k12), σ)) (fun v13 => (m_X1_in a2 (0 : Int32) (1 : Int32)).bind fun v16 => if v16 = 0 then m_X1_village_L18 σ a1 a2 (1 : Int32) else m_X1_village_L18 σ a1 a2 (0 : Int32))
def m_X1_isBeside_L24 (k4 : Int32 → Int32 → Int32 → Int32 → Option Int32) (x0 : Int32) (x1 : Int32) (x3 : Int32) (t0 : Int32) (t1 : Int32) : Option Int32 := k4 x0 x1 (t0 ||| t1) (x3 + (1 : Int32))
def m_X1_isBeside_L4 : Nat → Int32 → Int32 → Int32 → Int32 → Option Int32
  | 0, _, _, _, _ => none
  | n + 1, x0, x1, x2, x3 => if (4 : Int32) ≤ x3 then if bz x2 then some x2 else none else (m_X1_next x0 x3).bind fun v5 => if v5 = x1 then (m_X1_isBeside_L24 (m_X1_isBeside_L4 n)) x0 x1 x3 x2 (1 : Int32) else (m_X1_isBeside_L24 (m_X1_isBeside_L4 n)) x0 x1 x3 x2 (0 : Int32)
def m_X1_isBeside (a1 : Int32) (a2 : Int32) : Option Int32 := (m_X1_isBeside_L4 fu_) a1 a2 (0 : Int32) (0 : Int32)
def m_X1_cropName (a1 : Int32) : Option Nat := if a1 = (0 : Int32) then some 0 else if a1 = (1 : Int32) then some 1 else if a1 = (2 : Int32) then some 2 else some 3
def m_X1_isDigit_L17 (t0 : Int32) : Option Int32 := if bz t0 then some t0 else none
def m_X1_isDigit_L16 (k17 : Int32 → Option Int32)  : Option Int32 := k17 (0 : Int32)
def m_X1_isDigit (a1 : Int32) : Option Int32 := if a1 < (48 : Int32) then (m_X1_isDigit_L16 m_X1_isDigit_L17) else if (57 : Int32) < a1 then (m_X1_isDigit_L16 m_X1_isDigit_L17) else m_X1_isDigit_L17 (1 : Int32)
def m_X1_toldName (a1 : Int32) : Option Nat := if a1 = (0 : Int32) then some 4 else if a1 = (1 : Int32) then some 5 else if a1 = (2 : Int32) then some 6 else if a1 = (3 : Int32) then some 7 else some 8
def m_X1_herdAt (σ : st_T) (a1 : Int32) : Option (Nat ⊕ Nat) := (m_X1_in a1 (0 : Int32) ((gF_ σ 70 2 0) - (1 : Int32))).bind fun v3 => if v3 = 0 then some (.inl 3) else if alg_ σ 70 71 0 a1 then if (gP_ σ 71 (2 + a1.toNatClampNeg) 0) < gN_ σ 80 then some (.inr (gP_ σ 71 (2 + a1.toNatClampNeg) 0)) else none else none
def m_X1_some_L14 (t0 : Int32) : Option (Nat ⊕ Unit) := (m_X1_wrong t0).bind fun o3 => sm_ o3 (fun k4 => some (.inl k4)) (fun v5 => some (.inr ()))
def m_X1_some (a1 : Int32) : Option (Nat ⊕ Unit) := (m_X1_in a1 (1 : Int32) (5 : Int32)).bind fun v8 => if v8 = 0 then m_X1_some_L14 (1 : Int32) else m_X1_some_L14 (0 : Int32)
def m_X1_debt_L14 (σ : st_T) (x1 : Int32) (t0 : Int32) : Option (Nat ⊕ Int32) := (m_X1_wrong t0).bind fun o3 => sm_ o3 (fun k4 => some (.inl k4)) (fun v5 => if inb x1 2 then some (.inr (gA_ σ 25 0 x1.toNatClampNeg)) else none)
def m_X1_debt (σ : st_T) (a1 : Int32) : Option (Nat ⊕ Int32) := (m_X1_in a1 (0 : Int32) (1 : Int32)).bind fun v9 => if v9 = 0 then m_X1_debt_L14 σ a1 (1 : Int32) else m_X1_debt_L14 σ a1 (0 : Int32)
def m_X1_watched (σ : st_T) (a1 : Int32) : Option (Nat ⊕ Int32) := (m_X1_family a1).bind fun o3 => sm_ o3 (fun k4 => some (.inl k4)) (fun v5 => if inb a1 10 then some (.inr (gA_ σ 23 0 a1.toNatClampNeg)) else none)
def m_X1_join_L28 (σ : st_T) (x1 : Int32) (x2 : Int32) : Option ((Nat ⊕ Int32) × st_T) := if inb x1 10 then lt_ (sE_ σ 36 0 x1.toNatClampNeg (vp_nar .boolean x2)) fun σ2 => (m_X1_joined σ2).bind fun v6 => some ((.inr v6), σ2) else none
def m_X1_join (σ : st_T) (a1 : Int32) (a2 : Int32) : Option ((Nat ⊕ Int32) × st_T) := (m_X1_family a1).bind fun o9 => sm_ o9 (fun k10 => some ((.inl k10), σ)) (fun v11 => if a2 = 0 then m_X1_join_L28 σ a1 a2 else if inb a1 10 then if (gA_ σ 36 0 a1.toNatClampNeg) = 0 then (m_X1_joined σ).bind fun v17 => if v17 = (6 : Int32) then some ((.inr (-1 : Int32)), σ) else m_X1_join_L28 σ a1 a2 else m_X1_join_L28 σ a1 a2 else none)
def m_X1_away_L20 (σ : st_T) (x1 : Int32) (x2 : Int32) (x3 : Int32) (t0 : Int32) : Option ((Nat ⊕ Int32) × st_T) := (m_X1_wrong t0).bind fun o3 => sm_ o3 (fun k4 => some ((.inl k4), σ)) (fun v5 => if inb x1 10 then if (10 * 0 + x1.toNatClampNeg) < 10 then if inb x2 1000 then lt_ (sE_ σ 41 (10 * 0 + x1.toNatClampNeg) x2.toNatClampNeg (vp_nar .boolean x3)) fun σ9 => if bz (gA_ σ 41 (10 * 0 + x1.toNatClampNeg) x2.toNatClampNeg) then some ((.inr (gA_ σ 41 (10 * 0 + x1.toNatClampNeg) x2.toNatClampNeg)), σ9) else none else none else none else none)
def m_X1_away (σ : st_T) (a1 : Int32) (a2 : Int32) (a3 : Int32) : Option ((Nat ⊕ Int32) × st_T) := (m_X1_family a1).bind fun o14 => sm_ o14 (fun k15 => some ((.inl k15), σ)) (fun v16 => (m_X1_in a2 (0 : Int32) (999 : Int32)).bind fun v19 => if v19 = 0 then m_X1_away_L20 σ a1 a2 a3 (1 : Int32) else m_X1_away_L20 σ a1 a2 a3 (0 : Int32))
def m_X1_nights_L24 (t0 : Int32) : Option (Nat ⊕ Unit) := (m_X1_wrong t0).bind fun o3 => sm_ o3 (fun k4 => some (.inl k4)) (fun v5 => some (.inr ()))
def m_X1_nights_L19 (k24 : Int32 → Option (Nat ⊕ Unit))  : Option (Nat ⊕ Unit) := k24 (1 : Int32)
def m_X1_nights (a1 : Int32) (a2 : Int32) : Option (Nat ⊕ Unit) := (m_X1_in a1 (1 : Int32) (6 : Int32)).bind fun v8 => if v8 = 0 then (m_X1_nights_L19 m_X1_nights_L24) else (m_X1_in a2 (1 : Int32) (2 : Int32)).bind fun v12 => if v12 = 0 then (m_X1_nights_L19 m_X1_nights_L24) else m_X1_nights_L24 (0 : Int32)
def m_X1_isAway_L23 (σ : st_T) (t0 : Int32) : Option Int32 := if bz t0 then some t0 else none
def m_X1_isAway_L22 (k23 : st_T → Int32 → Option Int32) (σ : st_T)  : Option Int32 := k23 σ (0 : Int32)
def m_X1_isAway (σ : st_T) (a1 : Int32) (a2 : Int32) : Option Int32 := if (1000 : Int32) ≤ a2 then (m_X1_isAway_L22 m_X1_isAway_L23) σ else if inb a1 10 then if (10 * 0 + a1.toNatClampNeg) < 10 then if inb a2 1000 then if (gA_ σ 41 (10 * 0 + a1.toNatClampNeg) a2.toNatClampNeg) = 0 then (m_X1_isAway_L22 m_X1_isAway_L23) σ else m_X1_isAway_L23 σ (1 : Int32) else none else none else none
def m_X1_claimAt (σ : st_T) (a1 : Int32) : Option (Nat ⊕ Nat) := (m_X1_in a1 (0 : Int32) ((gF_ σ 72 2 0) - (1 : Int32))).bind fun v3 => if v3 = 0 then some (.inl 3) else if alg_ σ 72 73 0 a1 then if (gP_ σ 73 (2 + a1.toNatClampNeg) 0) < gN_ σ 83 then some (.inr (gP_ σ 73 (2 + a1.toNatClampNeg) 0)) else none else none
def m_X1_fund_L16 (σ : st_T) (x1 : Int32) (t0 : Int32) : Option ((Nat ⊕ Int32) × st_T) := (m_X1_wrong t0).bind fun o3 => sm_ o3 (fun k4 => some ((.inl k4), σ)) (fun v5 => lt_ (sF_ σ 1 35 0 (imin ((gF_ σ 1 35 0) + x1) (1000000000 : Int32))) fun σ6 => some ((.inr (gF_ σ6 1 35 0)), σ6))
def m_X1_fund (σ : st_T) (a1 : Int32) : Option ((Nat ⊕ Int32) × st_T) := (m_X1_in a1 (0 : Int32) (1000000 : Int32)).bind fun v10 => if v10 = 0 then m_X1_fund_L16 σ a1 (1 : Int32) else m_X1_fund_L16 σ a1 (0 : Int32)
def m_X1_hour_L15 (t0 : Int32) : Option (Nat ⊕ Unit) := (m_X1_wrong t0).bind fun o3 => sm_ o3 (fun k4 => some (.inl k4)) (fun v5 => some (.inr ()))
def m_X1_hour (a1 : Int32) : Option (Nat ⊕ Unit) := (m_X1_in a1 (0 : Int32) (100000 : Int32)).bind fun v8 => if v8 = 0 then m_X1_hour_L15 (1 : Int32) else m_X1_hour_L15 (0 : Int32)
def m_X1_windOf_L26 (σ : st_T) (x2 : Int32) : Option Int32 := some x2
def m_X1_windOf_L2 : Nat → st_T → Int32 → Int32 → Option Int32
  | 0, _, _, _ => none
  | n + 1, σ, x1, x2 => if (gF_ σ 1 37 0) ≤ x2 then m_X1_windOf_L26 σ x2 else if inb x2 60 then if (gA_ σ 27 0 x2.toNatClampNeg) = x1 then m_X1_windOf_L26 σ x2 else (m_X1_windOf_L2 n) σ x1 (x2 + (1 : Int32)) else none
def m_X1_windOf (σ : st_T) (a1 : Int32) : Option Int32 := (m_X1_windOf_L2 fu_) σ a1 (0 : Int32)
def m_X1_wireAt (σ : st_T) (a1 : Int32) : Option (Nat ⊕ Nat) := (m_X1_in a1 (0 : Int32) ((gF_ σ 74 2 0) - (1 : Int32))).bind fun v3 => if v3 = 0 then some (.inl 3) else if alg_ σ 74 75 0 a1 then if (gP_ σ 75 (2 + a1.toNatClampNeg) 0) < gN_ σ 85 then some (.inr (gP_ σ 75 (2 + a1.toNatClampNeg) 0)) else none else none
def m_X1_tripAt (σ : st_T) (a1 : Int32) : Option (Nat ⊕ Nat) := (m_X1_in a1 (0 : Int32) ((gF_ σ 76 2 0) - (1 : Int32))).bind fun v3 => if v3 = 0 then some (.inl 3) else if alg_ σ 76 77 0 a1 then if (gP_ σ 77 (2 + a1.toNatClampNeg) 0) < gN_ σ 86 then some (.inr (gP_ σ 77 (2 + a1.toNatClampNeg) 0)) else none else none
def m_X1_apart (a1 : Int32) (a2 : Int32) : Option Int32 := some ((iabs ((a1 - a1 / (8 : Int32) * (8 : Int32)) - (a2 - a2 / (8 : Int32) * (8 : Int32)))) + (iabs ((a1 / (8 : Int32)) - (a2 / (8 : Int32)))))
def m_X1_weight_L26 (σ : st_T) (t0 : Int32) : Option Int32 := some t0
def m_X1_weight (σ : st_T) (a1 : Int32) : Option Int32 := if inb a1 64 then if (gA_ σ 37 0 a1.toNatClampNeg) = 0 then m_X1_weight_L26 σ (((10000 : Int32) * (gA_ σ 26 0 a1.toNatClampNeg)) + (101 : Int32)) else m_X1_weight_L26 σ (1 : Int32) else none
def m_X14_of (i0 : Nat) (a1 : Int32) (a2 : Int32) : Option Int32 := some (imin a1 a2)
def m_X15_of (i0 : Nat) (a1 : Int32) (a2 : Int32) : Option Int32 := some (imax a1 a2)
def m_X17_known_L51 (i0 : Nat) (k4 : st_T → Int32 → Int32 → Int32 → Option Int32) (σ : st_T) (x1 : Int32) (x3 : Int32) (t0 : Int32) : Option Int32 := k4 σ x1 t0 (x3 + (1 : Int32))
def m_X17_known_L4 (i0 : Nat) : Nat → st_T → Int32 → Int32 → Int32 → Option Int32
  | 0, _, _, _, _ => none
  | n + 1, σ, x1, x2, x3 => if i0 < gN_ σ 83 then if i0 < gN_ σ 78 then if (gF_ σ 78 2 i0) ≤ x3 then some x2 else if alg_ σ 78 79 i0 x3 then if (gP_ σ 79 (2 + x3.toNatClampNeg) i0) < gN_ σ 84 then if x1 < (gF_ σ 84 0 (gP_ σ 79 (2 + x3.toNatClampNeg) i0)) then (m_X17_known_L51 i0 (m_X17_known_L4 i0 n)) σ x1 x3 x2 else if alg_ σ 78 79 i0 x3 then (m_X17_known_L51 i0 (m_X17_known_L4 i0 n)) σ x1 x3 (gF_ σ 84 1 (gP_ σ 79 (2 + x3.toNatClampNeg) i0)) else none else none else none else none else none
def m_X17_known (σ : st_T) (i0 : Nat) (a1 : Int32) : Option Int32 := (m_X17_known_L4 i0 fu_) σ a1 (0 : Int32) (0 : Int32)
def m_X17_latest (σ : st_T) (i0 : Nat) : Option Int32 := if i0 < gN_ σ 83 then if i0 < gN_ σ 78 then if alg_ σ 78 79 i0 ((gF_ σ 78 2 i0) - (1 : Int32)) then if (gP_ σ 79 (2 + ((gF_ σ 78 2 i0) - (1 : Int32)).toNatClampNeg) i0) < gN_ σ 84 then some (gF_ σ 84 1 (gP_ σ 79 (2 + ((gF_ σ 78 2 i0) - (1 : Int32)).toNatClampNeg) i0)) else none else none else none else none
def m_X19_isBetter_L103 (i0 : Nat) (σ : st_T)  : Option (Int32 × st_T) := some ((1 : Int32), σ)
def m_X19_isBetter_L86 (i0 : Nat) (σ : st_T) (x1 : Int32) (x2 : Int32) : Option (Int32 × st_T) := if i0 < gN_ σ 92 then if (gF_ σ 92 8 i0) = 0 then (m_X19_isBetter_L103 i0) σ else lt_ (sF_ σ 92 5 i0 x1) fun σ3 => lt_ (sF_ σ3 92 6 i0 x2) fun σ6 => (m_X19_isBetter_L103 i0) σ6 else none
def m_X19_isBetter_L84 (i0 : Nat) (σ : st_T)  : Option (Int32 × st_T) := some ((0 : Int32), σ)
def m_X19_isBetter_L54 (i0 : Nat) (k6 : st_T → Int32 → Int32 → Int32 → Option (Int32 × st_T)) (σ : st_T) (x1 : Int32) (x2 : Int32) (x3 : Int32) : Option (Int32 × st_T) := k6 σ x1 x2 (x3 + (1 : Int32))
def m_X19_isBetter_L6 (i0 : Nat) : Nat → st_T → Int32 → Int32 → Int32 → Option (Int32 × st_T)
  | 0, _, _, _, _ => none
  | n + 1, σ, x1, x2, x3 => if (10 : Int32) ≤ x3 then if i0 < gN_ σ 92 then if (gF_ σ 92 5 i0) < x1 then (m_X19_isBetter_L84 i0) σ else if x1 = (gF_ σ 92 5 i0) then if x2 < (gF_ σ 92 6 i0) then (m_X19_isBetter_L86 i0) σ x1 x2 else (m_X19_isBetter_L84 i0) σ else (m_X19_isBetter_L86 i0) σ x1 x2 else none else if i0 < gN_ σ 92 then if inb x3 10 then if (gA_ σ 36 0 x3.toNatClampNeg) = 0 then (m_X19_isBetter_L54 i0 (m_X19_isBetter_L6 i0 n)) σ x1 x2 x3 else if i0 < gN_ σ 95 then (m_X19_isBetter_L54 i0 (m_X19_isBetter_L6 i0 n)) σ (imax x1 (gA_ σ 95 i0 x3.toNatClampNeg)) (x2 + ((gA_ σ 95 i0 x3.toNatClampNeg) * (gA_ σ 95 i0 x3.toNatClampNeg))) x3 else none else none else none
def m_X19_isBetter (σ : st_T) (i0 : Nat) : Option (Int32 × st_T) := (m_X19_isBetter_L6 i0 fu_) σ (0 : Int32) (0 : Int32) (0 : Int32)
def m_X19_may_L45 (i0 : Nat) (σ : st_T) (t0 : Int32) : Option Int32 := if bz t0 then some t0 else none
def m_X19_may_L44 (i0 : Nat) (k45 : st_T → Int32 → Option Int32) (σ : st_T)  : Option Int32 := k45 σ (0 : Int32)
def m_X19_may (σ : st_T) (i0 : Nat) (a1 : Int32) (a2 : Int32) (a3 : Int32) : Option Int32 := if i0 < gN_ σ 92 then if inb a1 10 then if (gA_ σ 36 0 a1.toNatClampNeg) = 0 then (m_X19_may_L44 i0 (m_X19_may_L45 i0)) σ else if ((a3 >>> (a1 &&& 31)) &&& (1 : Int32)) = 0 then (m_X1_isAway σ a1 ((gF_ σ 1 33 0) + a2)).bind fun v8 => if v8 = 0 then (m_X19_may_L45 i0) σ (1 : Int32) else (m_X19_may_L44 i0 (m_X19_may_L45 i0)) σ else (m_X19_may_L44 i0 (m_X19_may_L45 i0)) σ else none else none
def m_X19_takes_L45 (rec : st_T → Nat → Int32 → Int32 → Option st_T) (i0 : Nat) : Nat → st_T → Int32 → Int32 → Option st_T
  | 0, _, _, _ => none
  | n + 1, σ, x2, x3 => if (10 : Int32) ≤ x3 then some σ else if i0 < gN_ σ 92 then if i0 < gN_ σ 95 then if inb x3 10 then lt_ (sE_ σ 95 i0 x3.toNatClampNeg ((gA_ σ 95 i0 x3.toNatClampNeg) - ((x2 >>> (x3 &&& 31)) &&& (1 : Int32)))) fun σ5 => (m_X19_takes_L45 rec i0 n) σ5 x2 (x3 + (1 : Int32)) else none else none else none
def m_X19_takes_L9 (rec : st_T → Nat → Int32 → Int32 → Option st_T) (i0 : Nat) : Nat → st_T → Int32 → Int32 → Int32 → Option st_T
  | 0, _, _, _, _ => none
  | n + 1, σ, x1, x2, x3 => if (10 : Int32) ≤ x3 then (rec σ i0 (x1 + (1 : Int32)) x2).bind fun σ12 => if i0 < gN_ σ 92 then (m_X19_takes_L45 rec i0 fu_) σ12 x2 (0 : Int32) else none else if i0 < gN_ σ 92 then if i0 < gN_ σ 95 then if inb x3 10 then lt_ (sE_ σ 95 i0 x3.toNatClampNeg ((gA_ σ 95 i0 x3.toNatClampNeg) + ((x2 >>> (x3 &&& 31)) &&& (1 : Int32)))) fun σ17 => (m_X19_takes_L9 rec i0 n) σ17 x1 x2 (x3 + (1 : Int32)) else none else none else none
def m_X19_takes (rec : st_T → Nat → Int32 → Int32 → Option st_T) (σ : st_T) (i0 : Nat) (a1 : Int32) (a2 : Int32) : Option st_T := if i0 < gN_ σ 92 then if i0 < gN_ σ 93 then if inb a1 (gP_ σ 93 0 i0) then lt_ (sE_ σ 93 i0 a1.toNatClampNeg a2) fun σ24 => (m_X19_takes_L9 rec i0 fu_) σ24 a1 a2 (0 : Int32) else none else none else none
def m_X2_like (σ : st_T) (i0 : Nat) (i1 : Nat) : Option st_T := if i1 < 3 then if i0 < 3 then lt_ (sA_ σ 51 i0 (va_cpy (gA_ σ 51 i1) (gA_ σ 51 i0) (0 : Int32).toNatClampNeg (0 : Int32).toNatClampNeg (64 : Int32).toNatClampNeg)) fun σ3 => lt_ (sA_ σ3 52 i0 (va_cpy (gA_ σ3 52 i1) (gA_ σ3 52 i0) (0 : Int32).toNatClampNeg (0 : Int32).toNatClampNeg (64 : Int32).toNatClampNeg)) fun σ5 => lt_ (sA_ σ5 53 i0 (va_cpy (gA_ σ5 53 i1) (gA_ σ5 53 i0) (0 : Int32).toNatClampNeg (0 : Int32).toNatClampNeg (64 : Int32).toNatClampNeg)) fun σ7 => lt_ (sA_ σ7 54 i0 (va_cpy (gA_ σ7 54 i1) (gA_ σ7 54 i0) (0 : Int32).toNatClampNeg (0 : Int32).toNatClampNeg (64 : Int32).toNatClampNeg)) fun σ9 => lt_ (sA_ σ9 55 i0 (va_cpy (gA_ σ9 55 i1) (gA_ σ9 55 i0) (0 : Int32).toNatClampNeg (0 : Int32).toNatClampNeg (64 : Int32).toNatClampNeg)) fun σ11 => lt_ (sA_ σ11 56 i0 (va_cpy (gA_ σ11 56 i1) (gA_ σ11 56 i0) (0 : Int32).toNatClampNeg (0 : Int32).toNatClampNeg (64 : Int32).toNatClampNeg)) fun σ13 => lt_ (sA_ σ13 57 i0 (va_cpy (gA_ σ13 57 i1) (gA_ σ13 57 i0) (0 : Int32).toNatClampNeg (0 : Int32).toNatClampNeg (64 : Int32).toNatClampNeg)) fun σ15 => lt_ (sA_ σ15 58 i0 (va_cpy (gA_ σ15 58 i1) (gA_ σ15 58 i0) (0 : Int32).toNatClampNeg (0 : Int32).toNatClampNeg (64 : Int32).toNatClampNeg)) fun σ17 => lt_ (sA_ σ17 59 i0 (va_cpy (gA_ σ17 59 i1) (gA_ σ17 59 i0) (0 : Int32).toNatClampNeg (0 : Int32).toNatClampNeg (64 : Int32).toNatClampNeg)) fun σ19 => some σ19 else none else none
def m_X2_frightens_L64 (i0 : Nat) (k22 : st_T → Int32 → Int32 → Int32 → Option st_T) (σ : st_T) (x1 : Int32) (x2 : Int32) (x3 : Int32) : Option st_T := k22 σ x1 x2 (x3 + (1 : Int32))
def m_X2_frightens_L22 (i0 : Nat) : Nat → st_T → Int32 → Int32 → Int32 → Option st_T
  | 0, _, _, _, _ => none
  | n + 1, σ, x1, x2, x3 => if (4 : Int32) ≤ x3 then some σ else (m_X1_next x1 x3).bind fun v4 => if v4 = (-1 : Int32) then (m_X2_frightens_L64 i0 (m_X2_frightens_L22 i0 n)) σ x1 x2 x3 else if i0 < 3 then if inb v4 64 then lt_ (sE_ σ 55 i0 v4.toNatClampNeg (imin ((gA_ σ 55 i0 v4.toNatClampNeg) + (x2 / (2 : Int32))) (1000 : Int32))) fun σ8 => (m_X2_frightens_L64 i0 (m_X2_frightens_L22 i0 n)) σ8 x1 x2 x3 else none else none
def m_X2_frightens (σ : st_T) (i0 : Nat) (a1 : Int32) (a2 : Int32) : Option st_T := if i0 < 3 then if inb a1 64 then lt_ (sE_ σ 55 i0 a1.toNatClampNeg (imin ((gA_ σ 55 i0 a1.toNatClampNeg) + a2) (1000 : Int32))) fun σ12 => (m_X2_frightens_L22 i0 fu_) σ12 a1 a2 (0 : Int32) else none else none
def m_X2_isOpen_L20 (i0 : Nat) (σ : st_T) (t0 : Int32) : Option Int32 := if bz t0 then some t0 else none
def m_X2_isOpen_L19 (i0 : Nat) (k20 : st_T → Int32 → Option Int32) (σ : st_T)  : Option Int32 := k20 σ (0 : Int32)
def m_X2_isOpen (σ : st_T) (i0 : Nat) (a1 : Int32) : Option Int32 := if a1 = (-1 : Int32) then (m_X2_isOpen_L19 i0 (m_X2_isOpen_L20 i0)) σ else if i0 < 3 then if inb a1 64 then if (gA_ σ 51 i0 a1.toNatClampNeg) = (1 : Int32) then (m_X2_isOpen_L19 i0 (m_X2_isOpen_L20 i0)) σ else (m_X2_isOpen_L20 i0) σ (1 : Int32) else none else none
def m_X2_fence_L21 (i0 : Nat) (σ : st_T) (x1 : Int32) (x2 : Int32) (rt0 : Nat) : Option Int32 := if rK rt0 = (1, 0, 64) ∧ i0 < mu_ rt0 * gN_ σ (ow_ rt0) then if inb (imin x1 x2) 64 then some (gA_ σ rt0 i0 (imin x1 x2).toNatClampNeg) else none else none
def m_X2_fence (σ : st_T) (i0 : Nat) (a1 : Int32) (a2 : Int32) : Option Int32 := if (iabs (a1 - a2)) = (1 : Int32) then if i0 < 3 then (m_X2_fence_L21 i0) σ a1 a2 56 else none else if i0 < 3 then (m_X2_fence_L21 i0) σ a1 a2 57 else none
def m_X2_isRipe_L24 (i0 : Nat) (σ : st_T) (t0 : Int32) : Option Int32 := if bz t0 then some t0 else none
def m_X2_isRipe_L23 (i0 : Nat) (k24 : st_T → Int32 → Option Int32) (σ : st_T)  : Option Int32 := k24 σ (0 : Int32)
def m_X2_isRipe (σ : st_T) (i0 : Nat) (a1 : Int32) : Option Int32 := if i0 < 3 then if inb a1 64 then if (gA_ σ 51 i0 a1.toNatClampNeg) = (2 : Int32) then if (gA_ σ 54 i0 a1.toNatClampNeg) ≤ 0 then (m_X2_isRipe_L23 i0 (m_X2_isRipe_L24 i0)) σ else (m_X2_isRipe_L24 i0) σ (1 : Int32) else (m_X2_isRipe_L23 i0 (m_X2_isRipe_L24 i0)) σ else none else none
def m_X2_fence_2_L21 (i0 : Nat) (σ : st_T) (x1 : Int32) (x2 : Int32) (x3 : Int32) (rt0 : Nat) : Option st_T := if rK rt0 = (1, 0, 64) ∧ i0 < mu_ rt0 * gN_ σ (ow_ rt0) then if inb (imin x1 x2) 64 then lt_ (sE_ σ rt0 i0 (imin x1 x2).toNatClampNeg x3) fun σ3 => some σ3 else none else none
def m_X2_fence_2 (σ : st_T) (i0 : Nat) (a1 : Int32) (a2 : Int32) (a3 : Int32) : Option st_T := if (iabs (a1 - a2)) = (1 : Int32) then if i0 < 3 then (m_X2_fence_2_L21 i0) σ a1 a2 a3 56 else none else if i0 < 3 then (m_X2_fence_2_L21 i0) σ a1 a2 a3 57 else none
def m_X2_loses (σ : st_T) (i0 : Nat) (a1 : Int32) (a2 : Int32) : Option (Int32 × st_T) := if i0 < 3 then if inb a1 64 then lt_ (sE_ σ 54 i0 a1.toNatClampNeg ((gA_ σ 54 i0 a1.toNatClampNeg) - (imin (gA_ σ 54 i0 a1.toNatClampNeg) a2))) fun σ3 => some ((imin (gA_ σ 54 i0 a1.toNatClampNeg) a2), σ3) else none else none
def m_X2_wears_L2 (i0 : Nat) : Nat → st_T → Int32 → Int32 → Option st_T
  | 0, _, _, _ => none
  | n + 1, σ, x1, x2 => if (64 : Int32) ≤ x2 then some σ else if i0 < 3 then if inb x2 64 then lt_ (sE_ σ 55 i0 x2.toNatClampNeg (((gA_ σ 55 i0 x2.toNatClampNeg) * x1) / (100 : Int32))) fun σ4 => (m_X2_wears_L2 i0 n) σ4 x1 (x2 + (1 : Int32)) else none else none
def m_X2_wears (σ : st_T) (i0 : Nat) (a1 : Int32) : Option st_T := (m_X2_wears_L2 i0 fu_) σ a1 (0 : Int32)
def m_X2_without_L59 (i0 : Nat) (k2 : st_T → Int32 → Int32 → Option st_T) (σ : st_T) (x1 : Int32) (x2 : Int32) (t1 : Int32) (t2 : Int32) : Option st_T := if i0 < 3 then if inb t1 64 then lt_ (sE_ σ 57 i0 t1.toNatClampNeg t2) fun σ3 => k2 σ3 x1 (x2 + (1 : Int32)) else none else none
def m_X2_without_L33 (i0 : Nat) (k2 : st_T → Int32 → Int32 → Option st_T) (σ : st_T) (x1 : Int32) (x2 : Int32) (t1 : Int32) (t2 : Int32) : Option st_T := if i0 < 3 then if inb t1 64 then lt_ (sE_ σ 56 i0 t1.toNatClampNeg t2) fun σ7 => if inb x2 64 then if (gA_ σ7 59 i0 x2.toNatClampNeg) = x1 then (m_X2_without_L59 i0 k2) σ7 x1 x2 x2 (0 : Int32) else (m_X2_without_L59 i0 k2) σ7 x1 x2 x2 (gA_ σ7 57 i0 x2.toNatClampNeg) else none else none else none
def m_X2_without_L2 (i0 : Nat) : Nat → st_T → Int32 → Int32 → Option st_T
  | 0, _, _, _ => none
  | n + 1, σ, x1, x2 => if (64 : Int32) ≤ x2 then some σ else if i0 < 3 then if inb x2 64 then if (gA_ σ 58 i0 x2.toNatClampNeg) = x1 then (m_X2_without_L33 i0 (m_X2_without_L2 i0 n)) σ x1 x2 x2 (0 : Int32) else (m_X2_without_L33 i0 (m_X2_without_L2 i0 n)) σ x1 x2 x2 (gA_ σ 56 i0 x2.toNatClampNeg) else none else none
def m_X2_without (σ : st_T) (i0 : Nat) (a1 : Int32) : Option st_T := (m_X2_without_L2 i0 fu_) σ a1 (0 : Int32)
def m_X2_builder_L21 (i0 : Nat) (σ : st_T) (x1 : Int32) (x2 : Int32) (x3 : Int32) (rt0 : Nat) : Option st_T := if rK rt0 = (1, 0, 64) ∧ i0 < mu_ rt0 * gN_ σ (ow_ rt0) then if inb (imin x1 x2) 64 then lt_ (sE_ σ rt0 i0 (imin x1 x2).toNatClampNeg x3) fun σ3 => some σ3 else none else none
def m_X2_builder (σ : st_T) (i0 : Nat) (a1 : Int32) (a2 : Int32) (a3 : Int32) : Option st_T := if (iabs (a1 - a2)) = (1 : Int32) then if i0 < 3 then (m_X2_builder_L21 i0) σ a1 a2 a3 58 else none else if i0 < 3 then (m_X2_builder_L21 i0) σ a1 a2 a3 59 else none
def m_X2_ripe_L37 (i0 : Nat) (σ : st_T) (x2 : Int32) : Option (Int32 × st_T) := some (x2, σ)
def m_X2_ripe_L31 (i0 : Nat) (k4 : st_T → Int32 → Int32 → Option (Int32 × st_T)) (σ : st_T) (x2 : Int32) (x3 : Int32) : Option (Int32 × st_T) := k4 σ x2 (x3 + (1 : Int32))
def m_X2_ripe_L4 (i0 : Nat) : Nat → st_T → Int32 → Int32 → Option (Int32 × st_T)
  | 0, _, _, _ => none
  | n + 1, σ, x2, x3 => if (64 : Int32) ≤ x3 then (m_X2_ripe_L37 i0) σ x2 else if (12 : Int32) ≤ x2 then (m_X2_ripe_L37 i0) σ x2 else (m_X2_isRipe σ i0 x3).bind fun v5 => if i0 < 3 then if v5 = 0 then (m_X2_ripe_L31 i0 (m_X2_ripe_L4 i0 n)) σ x2 x3 else if inb x2 12 then lt_ (sE_ σ 24 0 x2.toNatClampNeg x3) fun σ9 => (m_X2_ripe_L31 i0 (m_X2_ripe_L4 i0 n)) σ9 (x2 + (1 : Int32)) x3 else none else none
def m_X2_ripe (σ : st_T) (i0 : Nat) : Option (Int32 × st_T) := (m_X2_ripe_L4 i0 fu_) σ (0 : Int32) (0 : Int32)
def m_X3_nearest_L52 (k4 : st_T → Int32 → Int32 → Option Int32) (σ : st_T) (x1 : Int32) (x2 : Int32) : Option Int32 := k4 σ x1 (x2 + (1 : Int32))
def m_X3_nearest_L50 (k52 : st_T → Int32 → Int32 → Option Int32) (σ : st_T) (x2 : Int32) : Option Int32 := k52 σ x2 x2
def m_X3_nearest_L4 : Nat → st_T → Int32 → Int32 → Option Int32
  | 0, _, _, _ => none
  | n + 1, σ, x1, x2 => if (64 : Int32) ≤ x2 then some x1 else if inb x2 64 then if (gA_ σ 63 0 x2.toNatClampNeg) = 0 then if (1000000000 : Int32) ≤ (gA_ σ 61 0 x2.toNatClampNeg) then (m_X3_nearest_L52 (m_X3_nearest_L4 n)) σ x1 x2 else if x1 = (-1 : Int32) then (m_X3_nearest_L50 (m_X3_nearest_L52 (m_X3_nearest_L4 n))) σ x2 else if inb x1 64 then if (gA_ σ 61 0 x1.toNatClampNeg) ≤ (gA_ σ 61 0 x2.toNatClampNeg) then (m_X3_nearest_L52 (m_X3_nearest_L4 n)) σ x1 x2 else (m_X3_nearest_L50 (m_X3_nearest_L52 (m_X3_nearest_L4 n))) σ x2 else none else (m_X3_nearest_L52 (m_X3_nearest_L4 n)) σ x1 x2 else none
def m_X3_nearest (σ : st_T)  : Option Int32 := (m_X3_nearest_L4 fu_) σ (-1 : Int32) (0 : Int32)
def m_X4_from_L137 (r2 : Nat) (i2 : Nat) (k57 : st_T → Int32 → Int32 → Int32 → Option st_T) (σ : st_T) (x3 : Int32) (x4 : Int32) (x5 : Int32) : Option st_T := k57 σ x3 x4 (x5 + (1 : Int32))
def m_X4_from_L57 (r2 : Nat) (i2 : Nat) (k48 : st_T → Int32 → Int32 → Option st_T) : Nat → st_T → Int32 → Int32 → Int32 → Option st_T
  | 0, _, _, _, _ => none
  | n + 1, σ, x3, x4, x5 => if (4 : Int32) ≤ x5 then k48 σ x3 (x4 + (1 : Int32)) else if inb x4 64 then (m_X1_next (gA_ σ 67 0 x4.toNatClampNeg) x5).bind fun v5 => if v5 = (-1 : Int32) then (m_X4_from_L137 r2 i2 (m_X4_from_L57 r2 i2 k48 n)) σ x3 x4 x5 else if rK r2 = (1, 2, 64) ∧ i2 < mu_ r2 * gN_ σ (ow_ r2) then if inb v5 64 then if (gA_ σ r2 i2 v5.toNatClampNeg) = 0 then if (1000000000 : Int32) ≤ (gA_ σ 66 0 v5.toNatClampNeg) then if inb (gA_ σ 67 0 x4.toNatClampNeg) 64 then lt_ (sE_ σ 66 0 v5.toNatClampNeg ((gA_ σ 66 0 (gA_ σ 67 0 x4.toNatClampNeg).toNatClampNeg) + (1 : Int32))) fun σ12 => if inb x3 64 then lt_ (sE_ σ12 67 0 x3.toNatClampNeg v5) fun σ15 => (m_X4_from_L137 r2 i2 (m_X4_from_L57 r2 i2 k48 n)) σ15 (x3 + (1 : Int32)) x4 x5 else none else none else (m_X4_from_L137 r2 i2 (m_X4_from_L57 r2 i2 k48 n)) σ x3 x4 x5 else (m_X4_from_L137 r2 i2 (m_X4_from_L57 r2 i2 k48 n)) σ x3 x4 x5 else none else none else none
def m_X4_from_L48 (r2 : Nat) (i2 : Nat) : Nat → st_T → Int32 → Int32 → Option st_T
  | 0, _, _, _ => none
  | n + 1, σ, x3, x4 => if x3 ≤ x4 then some σ else (m_X4_from_L57 r2 i2 (m_X4_from_L48 r2 i2 n) fu_) σ x3 x4 (0 : Int32)
def m_X4_from_L2 (r2 : Nat) (i2 : Nat) : Nat → st_T → Int32 → Int32 → Option st_T
  | 0, _, _, _ => none
  | n + 1, σ, x1, x3 => if (64 : Int32) ≤ x3 then if rK r2 = (1, 2, 64) ∧ i2 < mu_ r2 * gN_ σ (ow_ r2) then if inb x1 64 then if (gA_ σ r2 i2 x1.toNatClampNeg) = 0 then lt_ (sE_ σ 66 0 x1.toNatClampNeg (0 : Int32)) fun σ22 => lt_ (sE_ σ22 67 0 (0 : Int32).toNatClampNeg x1) fun σ24 => (m_X4_from_L48 r2 i2 fu_) σ24 (1 : Int32) (0 : Int32) else some σ else none else none else if inb x3 64 then lt_ (sE_ σ 66 0 x3.toNatClampNeg (1000000000 : Int32)) fun σ27 => (m_X4_from_L2 r2 i2 n) σ27 x1 (x3 + (1 : Int32)) else none
def m_X4_from (σ : st_T) (a1 : Int32) (r2 : Nat) (i2 : Nat) : Option st_T := (m_X4_from_L2 r2 i2 fu_) σ a1 (0 : Int32)
def m_X5_like (σ : st_T) (i0 : Nat) (a1 : Int32) (a2 : Int32) : Option Int32 := if i0 < gN_ σ 87 then if i0 < gN_ σ 88 then if inb a1 4 then if i0 < gN_ σ 90 then if inb (imin a2 ((gA_ σ 90 i0 a1.toNatClampNeg) - (1 : Int32))) 12 then some (gA_ σ 89 (4 * i0 + a1.toNatClampNeg) (imin a2 ((gA_ σ 90 i0 a1.toNatClampNeg) - (1 : Int32))).toNatClampNeg) else none else none else none else none else none
def m_X5_now_L72 (i0 : Nat) (σ : st_T) (t0 : Int32) : Option (Int32 × st_T) := some (t0, σ)
def m_X5_now_L41 (i0 : Nat) (σ : st_T)  : Option (Int32 × st_T) := if i0 < gN_ σ 87 then if (gF_ σ 87 0 i0) ≤ (gF_ σ 87 8 i0) then (m_X5_now_L72 i0) σ (-1 : Int32) else if inb (gF_ σ 87 8 i0) 400 then (m_X5_now_L72 i0) σ ((gA_ σ 10 0 (gF_ σ 87 8 i0).toNatClampNeg) &&& (255 : Int32)) else none else none
def m_X5_now_L0 (i0 : Nat) : Nat → st_T → Option (Int32 × st_T)
  | 0, _ => none
  | n + 1, σ => if i0 < gN_ σ 87 then if (gF_ σ 87 0 i0) ≤ (gF_ σ 87 8 i0) then (m_X5_now_L41 i0) σ else if inb (gF_ σ 87 8 i0) 400 then if (gA_ σ 10 0 (gF_ σ 87 8 i0).toNatClampNeg) = (32 : Int32) then lt_ (sF_ σ 87 8 i0 ((gF_ σ 87 8 i0) + (1 : Int32))) fun σ8 => (m_X5_now_L0 i0 n) σ8 else (m_X5_now_L41 i0) σ else none else none
def m_X5_now (σ : st_T) (i0 : Nat) : Option (Int32 × st_T) := (m_X5_now_L0 i0 fu_) σ
def m_X5_isSmall_L41 (i0 : Nat) (σ : st_T) (t0 : Int32) : Option Int32 := if bz t0 then some t0 else none
def m_X5_isSmall_L40 (i0 : Nat) (k41 : st_T → Int32 → Option Int32) (σ : st_T)  : Option Int32 := k41 σ (0 : Int32)
def m_X5_isSmall (σ : st_T) (i0 : Nat) (a1 : Int32) : Option Int32 := if i0 < gN_ σ 87 then if (gF_ σ 87 0 i0) ≤ a1 then (m_X5_isSmall_L40 i0 (m_X5_isSmall_L41 i0)) σ else if inb a1 400 then if (gA_ σ 10 0 a1.toNatClampNeg) < (97 : Int32) then (m_X5_isSmall_L40 i0 (m_X5_isSmall_L41 i0)) σ else if (122 : Int32) < (gA_ σ 10 0 a1.toNatClampNeg) then (m_X5_isSmall_L40 i0 (m_X5_isSmall_L41 i0)) σ else (m_X5_isSmall_L41 i0) σ (1 : Int32) else none else none
def m_X1_watch_L2 (i1 : Nat) : Nat → st_T → Int32 → Option st_T
  | 0, _, _ => none
  | n + 1, σ, x2 => if (gF_ σ 1 34 0) ≤ x2 then some σ else if inb x2 10 then if (gP_ σ 1 31 0) < gN_ σ 87 then (m_X2_frightens σ i1 (gA_ σ 22 0 x2.toNatClampNeg) (gF_ σ 87 4 (gP_ σ 1 31 0))).bind fun σ6 => if i1 < 3 then (m_X1_watch_L2 i1 n) σ6 (x2 + (1 : Int32)) else none else none else none
def m_X1_watch (σ : st_T) (i1 : Nat) : Option st_T := (m_X1_watch_L2 i1 fu_) σ (0 : Int32)
def m_X1_harms (σ : st_T) (i1 : Nat) (a2 : Int32) (a3 : Int32) : Option (Int32 × st_T) := if i1 < 3 then if inb a2 64 then if (gA_ σ 51 i1 a2.toNatClampNeg) = (2 : Int32) then bn2_ (m_X2_loses σ i1 a2 a3) fun v6 σ7 => if (gP_ σ7 1 22 0) < 3 then if inb (gA_ σ7 52 i1 a2.toNatClampNeg) 10 then lt_ (sE_ σ7 32 (gP_ σ7 1 22 0) (gA_ σ7 52 i1 a2.toNatClampNeg).toNatClampNeg ((gA_ σ7 32 (gP_ σ7 1 22 0) (gA_ σ7 52 i1 a2.toNatClampNeg).toNatClampNeg) + v6)) fun σ10 => some (v6, σ10) else none else none else some ((0 : Int32), σ) else none else none
def m_X1_turn_L99 (k2 : st_T → Int32 → Int32 → Option Int32) (σ : st_T) (x1 : Int32) (x2 : Int32) : Option Int32 := k2 σ x1 (x2 + (1 : Int32))
def m_X1_turn_L84 (k24 : st_T → Int32 → Int32 → Int32 → Int32 → Option Int32) (σ : st_T) (x1 : Int32) (x2 : Int32) (x4 : Int32) (t0 : Int32) (t1 : Int32) : Option Int32 := k24 σ x1 x2 (t0 + t1) (x4 + (1 : Int32))
def m_X1_turn_L83 (k84 : st_T → Int32 → Int32 → Int32 → Int32 → Int32 → Option Int32) (σ : st_T) (x1 : Int32) (x2 : Int32) (x4 : Int32) (t0 : Int32) : Option Int32 := k84 σ x1 x2 x4 t0 (0 : Int32)
def m_X1_turn_L79 (k84 : st_T → Int32 → Int32 → Int32 → Int32 → Int32 → Option Int32) (σ : st_T) (x1 : Int32) (x2 : Int32) (x4 : Int32) (t0 : Int32) : Option Int32 := k84 σ x1 x2 x4 t0 (1 : Int32)
def m_X1_turn_L24 (k99 : st_T → Int32 → Int32 → Option Int32) : Nat → st_T → Int32 → Int32 → Int32 → Int32 → Option Int32
  | 0, _, _, _, _, _ => none
  | n + 1, σ, x1, x2, x3, x4 => if (10 : Int32) ≤ x4 then if x3 = x1 then some x2 else k99 σ x1 x2 else (m_X1_mayTurn σ x4).bind fun v5 => if v5 = 0 then (m_X1_turn_L83 (m_X1_turn_L84 (m_X1_turn_L24 k99 n))) σ x1 x2 x4 x3 else if inb x4 10 then if inb x2 10 then if (gA_ σ 23 0 x4.toNatClampNeg) < (gA_ σ 23 0 x2.toNatClampNeg) then (m_X1_turn_L79 (m_X1_turn_L84 (m_X1_turn_L24 k99 n))) σ x1 x2 x4 x3 else if (gA_ σ 23 0 x4.toNatClampNeg) = (gA_ σ 23 0 x2.toNatClampNeg) then if x2 ≤ x4 then (m_X1_turn_L83 (m_X1_turn_L84 (m_X1_turn_L24 k99 n))) σ x1 x2 x4 x3 else (m_X1_turn_L79 (m_X1_turn_L84 (m_X1_turn_L24 k99 n))) σ x1 x2 x4 x3 else (m_X1_turn_L83 (m_X1_turn_L84 (m_X1_turn_L24 k99 n))) σ x1 x2 x4 x3 else none else none
def m_X1_turn_L2 : Nat → st_T → Int32 → Int32 → Option Int32
  | 0, _, _, _ => none
  | n + 1, σ, x1, x2 => if (10 : Int32) ≤ x2 then some (-1 : Int32) else (m_X1_mayTurn σ x2).bind fun v15 => if v15 = 0 then (m_X1_turn_L99 (m_X1_turn_L2 n)) σ x1 x2 else (m_X1_turn_L24 (m_X1_turn_L99 (m_X1_turn_L2 n)) fu_) σ x1 x2 (0 : Int32) (0 : Int32)
def m_X1_turn (σ : st_T) (a1 : Int32) : Option Int32 := (m_X1_turn_L2 fu_) σ a1 (0 : Int32)
def m_X1_count_L99 : Nat → st_T → Int32 → Int32 → Option Int32
  | 0, _, _, _ => none
  | n + 1, σ, x2, x3 => if (64 : Int32) ≤ x3 then some x2 else if inb x3 64 then (m_X1_count_L99 n) σ (x2 + (gA_ σ 54 0 x3.toNatClampNeg)) (x3 + (1 : Int32)) else none
def m_X1_count (σ : st_T) (a1 : Int32) : Option Int32 := if a1 = (0 : Int32) then some (gF_ σ 1 33 0) else if a1 = (1 : Int32) then some (gF_ σ 70 2 0) else if a1 = (2 : Int32) then some (gF_ σ 1 34 0) else if a1 = (3 : Int32) then some (gF_ σ 72 2 0) else if a1 = (4 : Int32) then some (gF_ σ 1 35 0) else if a1 = (5 : Int32) then (m_X1_count_L99 fu_) σ (0 : Int32) (0 : Int32) else if a1 = (6 : Int32) then some (gF_ σ 1 32 0) else if a1 = (7 : Int32) then if (gP_ σ 1 31 0) < gN_ σ 87 then some (gF_ σ 87 9 (gP_ σ 1 31 0)) else none else if a1 = (8 : Int32) then some (gF_ σ 74 2 0) else if a1 = (9 : Int32) then some (gF_ σ 76 2 0) else if a1 = (10 : Int32) then (m_X1_joined σ).bind fun v17 => some v17 else if a1 = (11 : Int32) then some (gF_ σ 1 36 0) else some (-1 : Int32)
def m_X1_cell (a1 : Int32) : Option (Nat ⊕ Unit) := (m_X1_in a1 (0 : Int32) (63 : Int32)).bind fun v3 => if v3 = 0 then some (.inl 0) else some (.inr ())
def m_X1_field_L34 (σ : st_T) (x1 : Int32) (x2 : Int32) (x3 : Int32) (x4 : Int32) (t0 : Int32) : Option ((Nat ⊕ Int32) × st_T) := (m_X1_wrong t0).bind fun o3 => sm_ o3 (fun k4 => some ((.inl k4), σ)) (fun v5 => bn2_ (m_X1_was σ x1 (2 : Int32)) fun v8 σ9 => if inb x1 64 then lt_ (sE_ σ9 52 0 x1.toNatClampNeg x2) fun σ11 => lt_ (sE_ σ11 53 0 x1.toNatClampNeg x3) fun σ13 => lt_ (sE_ σ13 54 0 x1.toNatClampNeg x4) fun σ15 => some ((.inr v8), σ15) else none)
def m_X1_field_L29 (k34 : st_T → Int32 → Int32 → Int32 → Int32 → Int32 → Option ((Nat ⊕ Int32) × st_T)) (σ : st_T) (x1 : Int32) (x2 : Int32) (x3 : Int32) (x4 : Int32) : Option ((Nat ⊕ Int32) × st_T) := k34 σ x1 x2 x3 x4 (1 : Int32)
def m_X1_field (σ : st_T) (a1 : Int32) (a2 : Int32) (a3 : Int32) (a4 : Int32) : Option ((Nat ⊕ Int32) × st_T) := (m_X1_cell a1).bind fun o19 => sm_ o19 (fun k20 => some ((.inl k20), σ)) (fun v21 => (m_X1_family a2).bind fun o24 => sm_ o24 (fun k25 => some ((.inl k25), σ)) (fun v26 => (m_X1_in a3 (0 : Int32) (3 : Int32)).bind fun v29 => if v29 = 0 then (m_X1_field_L29 m_X1_field_L34) σ a1 a2 a3 a4 else (m_X1_in a4 (0 : Int32) (1000 : Int32)).bind fun v33 => if v33 = 0 then (m_X1_field_L29 m_X1_field_L34) σ a1 a2 a3 a4 else m_X1_field_L34 σ a1 a2 a3 a4 (0 : Int32)))
def m_X1_stalks_L30 (σ : st_T) (t0 : Int32) : Option (Nat ⊕ Int32) := some (.inr t0)
def m_X1_stalks (σ : st_T) (a1 : Int32) : Option (Nat ⊕ Int32) := (m_X1_cell a1).bind fun o3 => sm_ o3 (fun k4 => some (.inl k4)) (fun v5 => if inb a1 64 then if (gA_ σ 51 0 a1.toNatClampNeg) = (2 : Int32) then m_X1_stalks_L30 σ (gA_ σ 54 0 a1.toNatClampNeg) else m_X1_stalks_L30 σ (-1 : Int32) else none)
def m_X1_edge_L21 (t0 : Int32) : Option (Nat ⊕ Unit) := (m_X1_wrong t0).bind fun o3 => sm_ o3 (fun k4 => some (.inl k4)) (fun v5 => some (.inr ()))
def m_X1_edge (a1 : Int32) (a2 : Int32) : Option (Nat ⊕ Unit) := (m_X1_cell a1).bind fun o8 => sm_ o8 (fun k9 => some (.inl k9)) (fun v10 => (m_X1_cell a2).bind fun o13 => sm_ o13 (fun k14 => some (.inl k14)) (fun v15 => (m_X1_isBeside a1 a2).bind fun v18 => if v18 = 0 then m_X1_edge_L21 (1 : Int32) else m_X1_edge_L21 (0 : Int32)))
def m_X1_fenced (σ : st_T) (a1 : Int32) (a2 : Int32) : Option (Nat ⊕ Int32) := (m_X1_edge a1 a2).bind fun o3 => sm_ o3 (fun k4 => some (.inl k4)) (fun v5 => (m_X2_fence σ 0 a1 a2).bind fun v8 => some (.inr v8))
def m_X1_fear (σ : st_T) (a1 : Int32) : Option (Nat ⊕ Int32) := (m_X1_cell a1).bind fun o3 => sm_ o3 (fun k4 => some (.inl k4)) (fun v5 => if inb a1 64 then some (.inr (gA_ σ 55 0 a1.toNatClampNeg)) else none)
def m_X1_like_L24 (σ : st_T) (x1 : Int32) (x2 : Int32) (t0 : Int32) : Option (Nat ⊕ Int32) := (m_X1_wrong t0).bind fun o3 => sm_ o3 (fun k4 => some (.inl k4)) (fun v5 => (m_X5_like σ (gP_ σ 1 31 0) x1 x2).bind fun v8 => if (gP_ σ 1 31 0) < gN_ σ 87 then some (.inr v8) else none)
def m_X1_like_L19 (k24 : st_T → Int32 → Int32 → Int32 → Option (Nat ⊕ Int32)) (σ : st_T) (x1 : Int32) (x2 : Int32) : Option (Nat ⊕ Int32) := k24 σ x1 x2 (1 : Int32)
def m_X1_like (σ : st_T) (a1 : Int32) (a2 : Int32) : Option (Nat ⊕ Int32) := (m_X1_in a1 (0 : Int32) (3 : Int32)).bind fun v12 => if v12 = 0 then (m_X1_like_L19 m_X1_like_L24) σ a1 a2 else (m_X1_in a2 (0 : Int32) (11 : Int32)).bind fun v16 => if v16 = 0 then (m_X1_like_L19 m_X1_like_L24) σ a1 a2 else m_X1_like_L24 σ a1 a2 (0 : Int32)
def m_X1_watch_2 (σ : st_T) (a1 : Int32) (a2 : Int32) : Option ((Nat ⊕ Int32) × st_T) := (m_X1_cell a2).bind fun o3 => sm_ o3 (fun k4 => some ((.inl k4), σ)) (fun v5 => (m_X1_family a1).bind fun o8 => sm_ o8 (fun k9 => some ((.inl k9), σ)) (fun v10 => if (gF_ σ 1 34 0) = (10 : Int32) then some ((.inr (-1 : Int32)), σ) else (m_X1_isTold σ a1).bind fun v14 => if v14 = 0 then if inb a1 10 then if (gA_ σ 35 0 a1.toNatClampNeg) = 0 then if inb (gF_ σ 1 34 0) 10 then lt_ (sE_ σ 21 0 (gF_ σ 1 34 0).toNatClampNeg a1) fun σ19 => if inb (gF_ σ19 1 34 0) 10 then lt_ (sE_ σ19 22 0 (gF_ σ19 1 34 0).toNatClampNeg a2) fun σ22 => lt_ (sF_ σ22 1 34 0 ((gF_ σ22 1 34 0) + (1 : Int32))) fun σ24 => some ((.inr (gF_ σ24 1 34 0)), σ24) else none else none else some ((.inr (-3 : Int32)), σ) else none else some ((.inr (-2 : Int32)), σ)))
def m_X1_harm_L71 (k10 : st_T → Int32 → Int32 → Int32 → Int32 → Int32 → Int32 → Option (Nat ⊕ Int32)) (σ : st_T) (x1 : Int32) (x2 : Int32) (x3 : Int32) (x4 : Int32) (x6 : Int32) (t0 : Int32) (t1 : Int32) : Option (Nat ⊕ Int32) := k10 σ x1 x2 x3 x4 (t0 + t1) (x6 + (1 : Int32))
def m_X1_harm_L70 (k71 : st_T → Int32 → Int32 → Int32 → Int32 → Int32 → Int32 → Int32 → Option (Nat ⊕ Int32)) (σ : st_T) (x1 : Int32) (x2 : Int32) (x3 : Int32) (x4 : Int32) (x6 : Int32) (t0 : Int32) : Option (Nat ⊕ Int32) := k71 σ x1 x2 x3 x4 x6 t0 (0 : Int32)
def m_X1_harm_L10 : Nat → st_T → Int32 → Int32 → Int32 → Int32 → Int32 → Int32 → Option (Nat ⊕ Int32)
  | 0, _, _, _, _, _, _, _ => none
  | n + 1, σ, x1, x2, x3, x4, x5, x6 => if (gF_ σ 72 2 0) ≤ x6 then some (.inr x5) else if alg_ σ 72 73 0 x6 then if (gP_ σ 73 (2 + x6.toNatClampNeg) 0) < gN_ σ 83 then if (gF_ σ 83 0 (gP_ σ 73 (2 + x6.toNatClampNeg) 0)) = x1 then (m_X1_in (gF_ σ 83 1 (gP_ σ 73 (2 + x6.toNatClampNeg) 0)) x2 x3).bind fun v7 => if v7 = 0 then (m_X1_harm_L70 (m_X1_harm_L71 (m_X1_harm_L10 n))) σ x1 x2 x3 x4 x6 x5 else (m_X17_known σ (gP_ σ 73 (2 + x6.toNatClampNeg) 0) x4).bind fun v11 => (m_X1_harm_L71 (m_X1_harm_L10 n)) σ x1 x2 x3 x4 x6 x5 v11 else (m_X1_harm_L70 (m_X1_harm_L71 (m_X1_harm_L10 n))) σ x1 x2 x3 x4 x6 x5 else none else none
def m_X1_harm (σ : st_T) (a1 : Int32) (a2 : Int32) (a3 : Int32) (a4 : Int32) : Option (Nat ⊕ Int32) := (m_X1_family a1).bind fun o14 => sm_ o14 (fun k15 => some (.inl k15)) (fun v16 => (m_X1_harm_L10 fu_) σ a1 a2 a3 a4 (0 : Int32) (0 : Int32))
def m_X1_claim (σ : st_T) (a1 : Int32) (a2 : Int32) : Option (Nat ⊕ Int32) := (m_X1_claimAt σ a1).bind fun o3 => sm_ o3 (fun k4 => some (.inl k4)) (fun v5 => if a2 = (0 : Int32) then if v5 < gN_ σ 83 then some (.inr (gF_ σ 83 0 v5)) else none else if a2 = (1 : Int32) then if v5 < gN_ σ 83 then some (.inr (gF_ σ 83 1 v5)) else none else if a2 = (2 : Int32) then (m_X17_latest σ v5).bind fun v13 => if v5 < gN_ σ 83 then some (.inr v13) else none else if a2 = (3 : Int32) then if v5 < gN_ σ 83 then some (.inr (gF_ σ 83 3 v5)) else none else if a2 = (4 : Int32) then if v5 < gN_ σ 83 then if v5 < gN_ σ 78 then some (.inr (gF_ σ 78 2 v5)) else none else none else some (.inl 1))
def m_X1_rivers_L29 (k2 : st_T → Int32 → Option st_T) (σ : st_T) (x1 : Int32) (t1 : Int32) (t2 : Int32) : Option st_T := if inb t1 64 then lt_ (sE_ σ 39 0 t1.toNatClampNeg (vp_nar .boolean t2)) fun σ2 => k2 σ2 (x1 + (1 : Int32)) else none
def m_X1_rivers_L2 : Nat → st_T → Int32 → Option st_T
  | 0, _, _ => none
  | n + 1, σ, x1 => if (64 : Int32) ≤ x1 then some σ else (m_X2_isOpen σ 0 x1).bind fun v7 => if v7 = 0 then (m_X1_rivers_L29 (m_X1_rivers_L2 n)) σ x1 x1 (1 : Int32) else (m_X1_rivers_L29 (m_X1_rivers_L2 n)) σ x1 x1 (0 : Int32)
def m_X1_rivers (σ : st_T)  : Option st_T := (m_X1_rivers_L2 fu_) σ (0 : Int32)
def m_X1_wind_L54 (σ : st_T) (x1 : Int32) (x2 : Int32) (x3 : Int32) (t0 : Int32) : Option ((Nat ⊕ Int32) × st_T) := if inb x3 60 then lt_ (sE_ σ 27 0 x3.toNatClampNeg x1) fun σ2 => lt_ (sE_ σ2 28 0 x3.toNatClampNeg x2) fun σ4 => lt_ (sF_ σ4 1 37 0 (imax (gF_ σ4 1 37 0) (x3 + (1 : Int32)))) fun σ6 => some ((.inr t0), σ6) else none
def m_X1_wind_L19 (σ : st_T) (x1 : Int32) (x2 : Int32) (t0 : Int32) : Option ((Nat ⊕ Int32) × st_T) := (m_X1_wrong t0).bind fun o10 => sm_ o10 (fun k11 => some ((.inl k11), σ)) (fun v12 => (m_X1_windOf σ x1).bind fun v15 => if v15 = (60 : Int32) then some ((.inr (-1 : Int32)), σ) else if (gF_ σ 1 37 0) ≤ v15 then m_X1_wind_L54 σ x1 x2 v15 (0 : Int32) else if inb v15 60 then m_X1_wind_L54 σ x1 x2 v15 (gA_ σ 28 0 v15.toNatClampNeg) else none)
def m_X1_wind (σ : st_T) (a1 : Int32) (a2 : Int32) : Option ((Nat ⊕ Int32) × st_T) := (m_X1_hour a1).bind fun o21 => sm_ o21 (fun k22 => some ((.inl k22), σ)) (fun v23 => (m_X1_in a2 (0 : Int32) (12 : Int32)).bind fun v26 => if v26 = 0 then m_X1_wind_L19 σ a1 a2 (1 : Int32) else m_X1_wind_L19 σ a1 a2 (0 : Int32))
def m_X1_called_L227 (k128 : st_T → Int32 → Int32 → Option ((Nat ⊕ Int32) × st_T)) (σ : st_T) (x2 : Int32) (x4 : Int32) : Option ((Nat ⊕ Int32) × st_T) := k128 σ x2 (x4 + (1 : Int32))
def m_X1_called_L196 (k141 : st_T → Int32 → Int32 → Int32 → Int32 → Option ((Nat ⊕ Int32) × st_T)) (σ : st_T) (x2 : Int32) (x4 : Int32) (x6 : Int32) (t0 : Int32) (t1 : Int32) : Option ((Nat ⊕ Int32) × st_T) := k141 σ x2 x4 (t0 + t1) (x6 + (1 : Int32))
def m_X1_called_L195 (k196 : st_T → Int32 → Int32 → Int32 → Int32 → Int32 → Option ((Nat ⊕ Int32) × st_T)) (σ : st_T) (x2 : Int32) (x4 : Int32) (x6 : Int32) (t0 : Int32) : Option ((Nat ⊕ Int32) × st_T) := k196 σ x2 x4 x6 t0 (0 : Int32)
def m_X1_called_L191 (k196 : st_T → Int32 → Int32 → Int32 → Int32 → Int32 → Option ((Nat ⊕ Int32) × st_T)) (σ : st_T) (x2 : Int32) (x4 : Int32) (x6 : Int32) (t0 : Int32) : Option ((Nat ⊕ Int32) × st_T) := k196 σ x2 x4 x6 t0 (1 : Int32)
def m_X1_called_L141 (k128 : st_T → Int32 → Int32 → Option ((Nat ⊕ Int32) × st_T)) : Nat → st_T → Int32 → Int32 → Int32 → Int32 → Option ((Nat ⊕ Int32) × st_T)
  | 0, _, _, _, _, _ => none
  | n + 1, σ, x2, x4, x5, x6 => if (10 : Int32) ≤ x6 then if x5 = x2 then if inb x4 10 then if (1000000000 : Int32) ≤ (gA_ σ 31 0 x4.toNatClampNeg) then (m_X1_called_L227 k128) σ x2 x4 else some ((.inr x4), σ) else none else (m_X1_called_L227 k128) σ x2 x4 else if inb x6 10 then if inb x4 10 then if (gA_ σ 31 0 x6.toNatClampNeg) < (gA_ σ 31 0 x4.toNatClampNeg) then (m_X1_called_L191 (m_X1_called_L196 (m_X1_called_L141 k128 n))) σ x2 x4 x6 x5 else if (gA_ σ 31 0 x6.toNatClampNeg) = (gA_ σ 31 0 x4.toNatClampNeg) then if x4 ≤ x6 then (m_X1_called_L195 (m_X1_called_L196 (m_X1_called_L141 k128 n))) σ x2 x4 x6 x5 else (m_X1_called_L191 (m_X1_called_L196 (m_X1_called_L141 k128 n))) σ x2 x4 x6 x5 else (m_X1_called_L195 (m_X1_called_L196 (m_X1_called_L141 k128 n))) σ x2 x4 x6 x5 else none else none
def m_X1_called_L128 : Nat → st_T → Int32 → Int32 → Option ((Nat ⊕ Int32) × st_T)
  | 0, _, _, _ => none
  | n + 1, σ, x2, x4 => if (10 : Int32) ≤ x4 then some ((.inr (-1 : Int32)), σ) else (m_X1_called_L141 (m_X1_called_L128 n) fu_) σ x2 x4 (0 : Int32) (0 : Int32)
def m_X1_called_L119 (k35 : st_T → Int32 → Nat → Int32 → Option ((Nat ⊕ Int32) × st_T)) (σ : st_T) (x2 : Int32) (ix3 : Nat) (x4 : Int32) : Option ((Nat ⊕ Int32) × st_T) := k35 σ x2 ix3 (x4 + (1 : Int32))
def m_X1_called_L35 : Nat → st_T → Int32 → Nat → Int32 → Option ((Nat ⊕ Int32) × st_T)
  | 0, _, _, _, _ => none
  | n + 1, σ, x2, ix3, x4 => if (64 : Int32) ≤ x4 then (m_X1_called_L128 fu_) σ x2 (0 : Int32) else if inb x4 64 then if (gA_ σ 51 0 x4.toNatClampNeg) = (2 : Int32) then if ix3 < gN_ σ 86 then if (gP_ σ 86 0 ix3) < gN_ σ 85 then (m_X1_apart x4 (gF_ σ 85 0 (gP_ σ 86 0 ix3))).bind fun v18 => (m_X1_apart x4 (gF_ σ 85 1 (gP_ σ 86 0 ix3))).bind fun v21 => if inb (gA_ σ 52 0 x4.toNatClampNeg) 10 then lt_ (sE_ σ 31 0 (gA_ σ 52 0 x4.toNatClampNeg).toNatClampNeg (imin (gA_ σ 31 0 (gA_ σ 52 0 x4.toNatClampNeg).toNatClampNeg) (imin v18 v21))) fun σ23 => (m_X1_called_L119 (m_X1_called_L35 n)) σ23 x2 ix3 x4 else none else none else none else (m_X1_called_L119 (m_X1_called_L35 n)) σ x2 ix3 x4 else none
def m_X1_called_L9 : Nat → st_T → Int32 → Nat → Int32 → Option ((Nat ⊕ Int32) × st_T)
  | 0, _, _, _, _ => none
  | n + 1, σ, x2, ix3, x4 => if (10 : Int32) ≤ x4 then (m_X1_called_L35 fu_) σ x2 ix3 (0 : Int32) else if inb x4 10 then lt_ (sE_ σ 31 0 x4.toNatClampNeg (1000000000 : Int32)) fun σ29 => (m_X1_called_L9 n) σ29 x2 ix3 (x4 + (1 : Int32)) else none
def m_X1_called (σ : st_T) (a1 : Int32) (a2 : Int32) : Option ((Nat ⊕ Int32) × st_T) := (m_X1_tripAt σ a1).bind fun o33 => sm_ o33 (fun k34 => some ((.inl k34), σ)) (fun v35 => (m_X1_called_L9 fu_) σ a2 v35 (0 : Int32))
def m_X1_lease (σ : st_T) (a1 : Int32) (a2 : Int32) : Option ((Nat ⊕ Int32) × st_T) := (m_X1_cell a1).bind fun o3 => sm_ o3 (fun k4 => some ((.inl k4), σ)) (fun v5 => if inb a1 64 then lt_ (sE_ σ 37 0 a1.toNatClampNeg (vp_nar .boolean a2)) fun σ7 => if bz (gA_ σ 37 0 a1.toNatClampNeg) then some ((.inr (gA_ σ 37 0 a1.toNatClampNeg)), σ7) else none else none)
def m_X1_rent_L20 (σ : st_T) (x1 : Int32) (x2 : Int32) (t0 : Int32) : Option ((Nat ⊕ Int32) × st_T) := (m_X1_wrong t0).bind fun o3 => sm_ o3 (fun k4 => some ((.inl k4), σ)) (fun v5 => if inb x1 64 then lt_ (sE_ σ 26 0 x1.toNatClampNeg x2) fun σ7 => some ((.inr (gA_ σ 26 0 x1.toNatClampNeg)), σ7) else none)
def m_X1_rent (σ : st_T) (a1 : Int32) (a2 : Int32) : Option ((Nat ⊕ Int32) × st_T) := (m_X1_cell a1).bind fun o11 => sm_ o11 (fun k12 => some ((.inl k12), σ)) (fun v13 => (m_X1_in a2 (0 : Int32) (1000 : Int32)).bind fun v16 => if v16 = 0 then m_X1_rent_L20 σ a1 a2 (1 : Int32) else m_X1_rent_L20 σ a1 a2 (0 : Int32))
def m_X1_onward_L46 (i1 : Nat) (k10 : st_T → Int32 → Int32 → Option Int32) (σ : st_T) (x2 : Int32) (x4 : Int32) : Option Int32 := k10 σ x2 (x4 + (1 : Int32))
def m_X1_onward_L10 (i1 : Nat) : Nat → st_T → Int32 → Int32 → Option Int32
  | 0, _, _, _ => none
  | n + 1, σ, x2, x4 => (m_X1_next x2 x4).bind fun v3 => (m_X2_isOpen σ 0 v3).bind fun v6 => if v6 = 0 then (m_X1_onward_L46 i1 (m_X1_onward_L10 i1 n)) σ x2 x4 else (m_X1_next x2 x4).bind fun v10 => if i1 < gN_ σ 99 then if inb v10 64 then if inb x2 64 then (m_X1_weight σ x2).bind fun v16 => if (gA_ σ 99 i1 v10.toNatClampNeg) = ((gA_ σ 99 i1 x2.toNatClampNeg) - v16) then (m_X1_next x2 x4).bind fun v20 => some v20 else (m_X1_onward_L46 i1 (m_X1_onward_L10 i1 n)) σ x2 x4 else none else none else none
def m_X1_onward (σ : st_T) (i1 : Nat) (a2 : Int32) (a3 : Int32) : Option Int32 := if a2 = a3 then some (-1 : Int32) else (m_X1_onward_L10 i1 fu_) σ a2 (0 : Int32)
def m_X19_goes_L143 (rec : st_T → Nat → Int32 → Int32 → Option st_T) (i0 : Nat) (k58 : st_T → Int32 → Int32 → Int32 → Option st_T) (σ : st_T) (x1 : Int32) (x2 : Int32) (x3 : Int32) : Option st_T := k58 σ x1 x2 (x3 + (1 : Int32))
def m_X19_goes_L137 (rec : st_T → Nat → Int32 → Int32 → Option st_T) (i0 : Nat) (k98 : st_T → Int32 → Int32 → Int32 → Int32 → Option st_T) (σ : st_T) (x1 : Int32) (x2 : Int32) (x3 : Int32) (x4 : Int32) : Option st_T := k98 σ x1 x2 x3 (x4 + (1 : Int32))
def m_X19_goes_L98 (rec : st_T → Nat → Int32 → Int32 → Option st_T) (i0 : Nat) (k143 : st_T → Int32 → Int32 → Int32 → Option st_T) : Nat → st_T → Int32 → Int32 → Int32 → Int32 → Option st_T
  | 0, _, _, _, _, _ => none
  | n + 1, σ, x1, x2, x3, x4 => if (10 : Int32) ≤ x4 then k143 σ x1 x2 x3 else if i0 < gN_ σ 92 then if (gF_ σ 92 1 i0) = (2 : Int32) then (m_X19_may σ i0 x4 x1 x2).bind fun v6 => if v6 = 0 then (m_X19_goes_L137 rec i0 (m_X19_goes_L98 rec i0 k143 n)) σ x1 x2 x3 x4 else (m_X19_takes rec σ i0 x1 (((1 : Int32) <<< (x3 &&& 31)) ||| ((1 : Int32) <<< (x4 &&& 31)))).bind fun σ10 => (m_X19_goes_L137 rec i0 (m_X19_goes_L98 rec i0 k143 n)) σ10 x1 x2 x3 x4 else k143 σ x1 x2 x3 else none
def m_X19_goes_L93 (rec : st_T → Nat → Int32 → Int32 → Option st_T) (i0 : Nat) (k143 : st_T → Int32 → Int32 → Int32 → Option st_T) (σ : st_T) (x1 : Int32) (x2 : Int32) (x3 : Int32) : Option st_T := (m_X19_goes_L98 rec i0 k143 fu_) σ x1 x2 x3 (x3 + (1 : Int32))
def m_X19_goes_L58 (rec : st_T → Nat → Int32 → Int32 → Option st_T) (i0 : Nat) : Nat → st_T → Int32 → Int32 → Int32 → Option st_T
  | 0, _, _, _, _ => none
  | n + 1, σ, x1, x2, x3 => if (10 : Int32) ≤ x3 then some σ else (m_X19_may σ i0 x3 x1 x2).bind fun v14 => if i0 < gN_ σ 92 then if v14 = 0 then (m_X19_goes_L143 rec i0 (m_X19_goes_L58 rec i0 n)) σ x1 x2 x3 else if (gF_ σ 92 1 i0) = (1 : Int32) then (m_X19_takes rec σ i0 x1 ((1 : Int32) <<< (x3 &&& 31))).bind fun σ20 => (m_X19_goes_L93 rec i0 (m_X19_goes_L143 rec i0 (m_X19_goes_L58 rec i0 n))) σ20 x1 x2 x3 else (m_X19_goes_L93 rec i0 (m_X19_goes_L143 rec i0 (m_X19_goes_L58 rec i0 n))) σ x1 x2 x3 else none
def m_X19_goes_L14 (rec : st_T → Nat → Int32 → Int32 → Option st_T) (i0 : Nat) (σ : st_T) (x1 : Int32) (x2 : Int32) (t1 : Int32) : Option st_T := if i0 < gN_ σ 92 then if bz t1 then lt_ (sF_ σ 92 8 i0 t1) fun σ23 => bn2_ (m_X19_isBetter σ23 i0) fun v28 σ29 => if v28 = 0 then some σ29 else if i0 < gN_ σ29 92 then if x1 = (gF_ σ29 92 0 i0) then lt_ (sF_ σ29 92 7 i0 (1 : Int32)) fun σ33 => if i0 < gN_ σ33 93 then if i0 < gN_ σ33 94 then if acp_ (0 : Int32) (0 : Int32) (gF_ σ33 92 0 i0) (gP_ σ33 93 0 i0) (gP_ σ33 94 0 i0) then lt_ (sA_ σ33 94 i0 (va_cpy (gA_ σ33 93 i0) (gA_ σ33 94 i0) (0 : Int32).toNatClampNeg (0 : Int32).toNatClampNeg (gF_ σ33 92 0 i0).toNatClampNeg)) fun σ39 => some σ39 else none else none else none else (m_X19_goes_L58 rec i0 fu_) σ29 x1 x2 (0 : Int32) else none else none else none
def m_X19_goes_b (rec : st_T → Nat → Int32 → Int32 → Option st_T) (σ : st_T) (i0 : Nat) (a1 : Int32) (a2 : Int32) : Option st_T := if i0 < gN_ σ 92 then if a1 = (gF_ σ 92 0 i0) then (m_X19_goes_L14 rec i0) σ a1 a2 (1 : Int32) else (m_X19_goes_L14 rec i0) σ a1 a2 (0 : Int32) else none
def m_X19_goes : Nat → st_T → Nat → Int32 → Int32 → Option st_T
  | 0, _, _, _, _ => none
  | n + 1, σ, i0, a1, a2 => m_X19_goes_b (m_X19_goes n) σ i0 a1 a2
def m_X2_step (σ : st_T) (i0 : Nat) (a1 : Int32) (a2 : Int32) (a3 : Int32) : Option Int32 := (m_X2_fence σ i0 a1 a2).bind fun v3 => if i0 < 3 then if inb a2 64 then some ((a3 + v3) + (gA_ σ 55 i0 a2.toNatClampNeg)) else none else none
def m_X3_from_L138 (i1 : Nat) (k63 : st_T → Int32 → Int32 → Int32 → Int32 → Option st_T) (σ : st_T) (x3 : Int32) (x4 : Int32) (x5 : Int32) (x6 : Int32) : Option st_T := k63 σ x3 x4 x5 (x6 + (1 : Int32))
def m_X3_from_L133 (i1 : Nat) (k138 : st_T → Int32 → Int32 → Int32 → Int32 → Option st_T) (σ : st_T) (x3 : Int32) (x4 : Int32) (x5 : Int32) (x6 : Int32) (t1 : Int32) (t2 : Int32) (t3 : Int32) (t4 : Int32) : Option st_T := if inb t1 64 then lt_ (sE_ σ 61 0 t1.toNatClampNeg (imin t2 (t3 + t4))) fun σ2 => k138 σ2 x3 x4 x5 x6 else none
def m_X3_from_L63 (i1 : Nat) (k46 : st_T → Int32 → Int32 → Int32 → Option st_T) : Nat → st_T → Int32 → Int32 → Int32 → Int32 → Option st_T
  | 0, _, _, _, _, _ => none
  | n + 1, σ, x3, x4, x5, x6 => if (4 : Int32) ≤ x6 then (m_X3_nearest σ).bind fun v7 => k46 σ x3 x4 v7 else (m_X1_next x5 x6).bind fun v10 => (m_X2_isOpen σ i1 v10).bind fun v13 => if i1 < 3 then if v13 = 0 then (m_X3_from_L138 i1 (m_X3_from_L63 i1 k46 n)) σ x3 x4 x5 x6 else if inb v10 64 then if inb x5 64 then if x4 = 0 then (m_X2_step σ i1 x5 v10 x3).bind fun v21 => (m_X3_from_L133 i1 (m_X3_from_L138 i1 (m_X3_from_L63 i1 k46 n))) σ x3 x4 x5 x6 v10 (gA_ σ 61 0 v10.toNatClampNeg) (gA_ σ 61 0 x5.toNatClampNeg) v21 else (m_X2_step σ i1 v10 x5 x3).bind fun v24 => (m_X3_from_L133 i1 (m_X3_from_L138 i1 (m_X3_from_L63 i1 k46 n))) σ x3 x4 x5 x6 v10 (gA_ σ 61 0 v10.toNatClampNeg) (gA_ σ 61 0 x5.toNatClampNeg) v24 else none else none else none
def m_X3_from_L46 (i1 : Nat) : Nat → st_T → Int32 → Int32 → Int32 → Option st_T
  | 0, _, _, _, _ => none
  | n + 1, σ, x3, x4, x5 => if x5 = (-1 : Int32) then some σ else if inb x5 64 then lt_ (sE_ σ 63 0 x5.toNatClampNeg (vp_nar .boolean (1 : Int32))) fun σ27 => (m_X3_from_L63 i1 (m_X3_from_L46 i1 n) fu_) σ27 x3 x4 x5 (0 : Int32) else none
def m_X3_from_L3 (i1 : Nat) : Nat → st_T → Int32 → Int32 → Int32 → Int32 → Option st_T
  | 0, _, _, _, _, _ => none
  | n + 1, σ, x2, x3, x4, x5 => if (64 : Int32) ≤ x5 then if inb x2 64 then lt_ (sE_ σ 61 0 x2.toNatClampNeg (0 : Int32)) fun σ31 => (m_X3_nearest σ31).bind fun v35 => (m_X3_from_L46 i1 fu_) σ31 x3 x4 v35 else none else if inb x5 64 then lt_ (sE_ σ 61 0 x5.toNatClampNeg (1000000000 : Int32)) fun σ37 => lt_ (sE_ σ37 63 0 x5.toNatClampNeg (vp_nar .boolean (0 : Int32))) fun σ39 => (m_X3_from_L3 i1 n) σ39 x2 x3 x4 (x5 + (1 : Int32)) else none
def m_X3_from (σ : st_T) (i1 : Nat) (a2 : Int32) (a3 : Int32) (a4 : Int32) : Option st_T := (m_X3_from_L3 i1 fu_) σ a2 a3 a4 (0 : Int32)
def m_X3_goes_L135 (i1 : Nat) (k83 : st_T → Int32 → Int32 → Int32 → Int32 → Option st_T) (σ : st_T) (x3 : Int32) (x4 : Int32) (x5 : Int32) (x6 : Int32) : Option st_T := k83 σ x3 x4 x5 (x6 + (1 : Int32))
def m_X3_goes_L83 (i1 : Nat) (k52 : st_T → Int32 → Int32 → Option st_T) : Nat → st_T → Int32 → Int32 → Int32 → Int32 → Option st_T
  | 0, _, _, _, _, _ => none
  | n + 1, σ, x3, x4, x5, x6 => (m_X1_next x5 x6).bind fun v3 => (m_X2_isOpen σ i1 v3).bind fun v6 => if i1 < 3 then if v6 = 0 then (m_X3_goes_L135 i1 (m_X3_goes_L83 i1 k52 n)) σ x3 x4 x5 x6 else (m_X1_next x5 x6).bind fun v11 => if inb v11 64 then (m_X1_next x5 x6).bind fun v15 => (m_X2_step σ i1 x5 v15 x4).bind fun v18 => if inb x5 64 then if ((gA_ σ 61 0 v11.toNatClampNeg) + v18) = (gA_ σ 61 0 x5.toNatClampNeg) then lt_ (sF_ σ 60 3 0 ((gF_ σ 60 3 0) + (1 : Int32))) fun σ21 => (m_X1_next x5 x6).bind fun v25 => if inb (gF_ σ 60 3 0) 64 then lt_ (sE_ σ21 62 0 (gF_ σ 60 3 0).toNatClampNeg v25) fun σ27 => k52 σ27 x3 x4 else none else (m_X3_goes_L135 i1 (m_X3_goes_L83 i1 k52 n)) σ x3 x4 x5 x6 else none else none else none
def m_X3_goes_L52 (i1 : Nat) : Nat → st_T → Int32 → Int32 → Option st_T
  | 0, _, _, _ => none
  | n + 1, σ, x3, x4 => if inb ((gF_ σ 60 3 0) - (1 : Int32)) 64 then if (gA_ σ 62 0 ((gF_ σ 60 3 0) - (1 : Int32)).toNatClampNeg) = x3 then some σ else (m_X3_goes_L83 i1 (m_X3_goes_L52 i1 n) fu_) σ x3 x4 (gA_ σ 62 0 ((gF_ σ 60 3 0) - (1 : Int32)).toNatClampNeg) (0 : Int32) else none
def m_X3_goes (σ : st_T) (i1 : Nat) (a2 : Int32) (a3 : Int32) (a4 : Int32) : Option st_T := lt_ (sF_ σ 60 3 0 (0 : Int32)) fun σ31 => (m_X2_isOpen σ31 i1 a3).bind fun v35 => if i1 < 3 then if v35 = 0 then some σ31 else (m_X3_from σ31 i1 a3 a4 (1 : Int32)).bind fun σ40 => if inb a2 64 then if (gA_ σ40 61 0 a2.toNatClampNeg) = (1000000000 : Int32) then some σ40 else lt_ (sF_ σ40 60 3 0 ((gF_ σ40 60 3 0) + (1 : Int32))) fun σ43 => if inb (gF_ σ40 60 3 0) 64 then lt_ (sE_ σ43 62 0 (gF_ σ40 60 3 0).toNatClampNeg a2) fun σ46 => (m_X3_goes_L52 i1 fu_) σ46 a3 a4 else none else none else none
def m_X1_goes_L240 (i1 : Nat) (i2 : Nat) (k166 : st_T → Int32 → Int32 → Int32 → Option (Int32 × st_T)) (σ : st_T) (x5 : Int32) (x6 : Int32) (x7 : Int32) : Option (Int32 × st_T) := k166 σ x5 x6 (x7 + (1 : Int32))
def m_X1_goes_L166 (i1 : Nat) (i2 : Nat) : Nat → st_T → Int32 → Int32 → Int32 → Option (Int32 × st_T)
  | 0, _, _, _, _ => none
  | n + 1, σ, x5, x6, x7 => if (gF_ σ 60 3 0) ≤ x7 then if i2 < gN_ σ 80 then bn2_ (m_X1_harms σ i1 x5 (gF_ σ 80 1 i2)) fun v5 σ6 => some ((x6 + v5), σ6) else none else if inb (x7 - (1 : Int32)) 64 then if inb x7 64 then (m_X2_fence_2 σ i1 (gA_ σ 62 0 (x7 - (1 : Int32)).toNatClampNeg) (gA_ σ 62 0 x7.toNatClampNeg) (0 : Int32)).bind fun σ11 => if i1 < 3 then if ((gF_ σ11 60 3 0) - (1 : Int32)) ≤ x7 then (m_X1_goes_L240 i1 i2 (m_X1_goes_L166 i1 i2 n)) σ11 x5 x6 x7 else bn2_ (m_X1_harms σ11 i1 (gA_ σ11 62 0 x7.toNatClampNeg) (5 : Int32)) fun v16 σ17 => (m_X1_goes_L240 i1 i2 (m_X1_goes_L166 i1 i2 n)) σ17 x5 (x6 + v16) x7 else none else none else none
def m_X1_goes_L125 (i1 : Nat) (i2 : Nat) (k29 : st_T → Int32 → Int32 → Int32 → Int32 → Option (Int32 × st_T)) (σ : st_T) (x3 : Int32) (x4 : Int32) (x5 : Int32) (x6 : Int32) : Option (Int32 × st_T) := k29 σ x3 x4 x5 (x6 + (1 : Int32))
def m_X1_goes_L29 (i1 : Nat) (i2 : Nat) : Nat → st_T → Int32 → Int32 → Int32 → Int32 → Option (Int32 × st_T)
  | 0, _, _, _, _, _ => none
  | n + 1, σ, x3, x4, x5, x6 => if (64 : Int32) ≤ x6 then if x5 = (-1 : Int32) then some ((0 : Int32), σ) else if i2 < gN_ σ 80 then if (gP_ σ 1 31 0) < gN_ σ 87 then (m_X3_goes σ i1 (gF_ σ 80 0 i2) x5 (gF_ σ 87 3 (gP_ σ 1 31 0))).bind fun σ24 => (m_X1_goes_L166 i1 i2 fu_) σ24 x5 (0 : Int32) (1 : Int32) else none else none else (m_X2_isRipe σ i1 x6).bind fun v27 => if i1 < 3 then if v27 = 0 then (m_X1_goes_L125 i1 i2 (m_X1_goes_L29 i1 i2 n)) σ x3 x4 x5 x6 else if inb x6 64 then if (gA_ σ 61 0 x6.toNatClampNeg) = (1000000000 : Int32) then (m_X1_goes_L125 i1 i2 (m_X1_goes_L29 i1 i2 n)) σ x3 x4 x5 x6 else (m_X5_like σ (gP_ σ 1 31 0) (gA_ σ 53 i1 x6.toNatClampNeg) x3).bind fun v34 => if (gP_ σ 1 31 0) < gN_ σ 87 then if i2 < gN_ σ 80 then if x4 < ((v34 * (imin (gA_ σ 54 i1 x6.toNatClampNeg) (gF_ σ 80 1 i2))) - (gA_ σ 61 0 x6.toNatClampNeg)) then (m_X1_goes_L125 i1 i2 (m_X1_goes_L29 i1 i2 n)) σ x3 ((v34 * (imin (gA_ σ 54 i1 x6.toNatClampNeg) (gF_ σ 80 1 i2))) - (gA_ σ 61 0 x6.toNatClampNeg)) x6 x6 else (m_X1_goes_L125 i1 i2 (m_X1_goes_L29 i1 i2 n)) σ x3 x4 x5 x6 else none else none else none else none
def m_X1_goes (σ : st_T) (i1 : Nat) (i2 : Nat) (a3 : Int32) : Option (Int32 × st_T) := if i2 < gN_ σ 80 then if (gP_ σ 1 31 0) < gN_ σ 87 then (m_X3_from σ i1 (gF_ σ 80 0 i2) (gF_ σ 87 3 (gP_ σ 1 31 0)) (0 : Int32)).bind fun σ42 => (m_X1_goes_L29 i1 i2 fu_) σ42 a3 (0 : Int32) (-1 : Int32) (0 : Int32) else none else none
def m_X1_land_L42 (σ : st_T) (x1 : Int32) (x2 : Int32) : Option ((Nat ⊕ Int32) × st_T) := bn2_ (m_X1_was σ x1 x2) fun v3 σ4 => some ((.inr v3), σ4)
def m_X1_land_L18 (σ : st_T) (x1 : Int32) (x2 : Int32) (t0 : Int32) : Option ((Nat ⊕ Int32) × st_T) := (m_X1_wrong t0).bind fun o7 => sm_ o7 (fun k8 => some ((.inl k8), σ)) (fun v9 => if x2 = (1 : Int32) then (m_X1_isHerds σ x1).bind fun v13 => if v13 = 0 then m_X1_land_L42 σ x1 x2 else some ((.inl 2), σ) else m_X1_land_L42 σ x1 x2)
def m_X1_land (σ : st_T) (a1 : Int32) (a2 : Int32) : Option ((Nat ⊕ Int32) × st_T) := (m_X1_cell a1).bind fun o17 => sm_ o17 (fun k18 => some ((.inl k18), σ)) (fun v19 => (m_X1_in a2 (0 : Int32) (1 : Int32)).bind fun v22 => if v22 = 0 then m_X1_land_L18 σ a1 a2 (1 : Int32) else m_X1_land_L18 σ a1 a2 (0 : Int32))
def m_X1_fence_L30 (σ : st_T) (x1 : Int32) (x2 : Int32) (x3 : Int32) (x4 : Int32) (t0 : Int32) : Option ((Nat ⊕ Int32) × st_T) := (m_X1_wrong t0).bind fun o3 => sm_ o3 (fun k4 => some ((.inl k4), σ)) (fun v5 => (m_X2_fence σ 0 x1 x2).bind fun v8 => (m_X2_fence_2 σ 0 x1 x2 x3).bind fun σ11 => (m_X2_builder σ11 0 x1 x2 x4).bind fun σ14 => some ((.inr v8), σ14))
def m_X1_fence_L25 (k30 : st_T → Int32 → Int32 → Int32 → Int32 → Int32 → Option ((Nat ⊕ Int32) × st_T)) (σ : st_T) (x1 : Int32) (x2 : Int32) (x3 : Int32) (x4 : Int32) : Option ((Nat ⊕ Int32) × st_T) := k30 σ x1 x2 x3 x4 (1 : Int32)
def m_X1_fence (σ : st_T) (a1 : Int32) (a2 : Int32) (a3 : Int32) (a4 : Int32) : Option ((Nat ⊕ Int32) × st_T) := (m_X1_edge a1 a2).bind fun o17 => sm_ o17 (fun k18 => some ((.inl k18), σ)) (fun v19 => (m_X1_in a3 (0 : Int32) (100 : Int32)).bind fun v22 => if v22 = 0 then (m_X1_fence_L25 m_X1_fence_L30) σ a1 a2 a3 a4 else (m_X1_in a4 (0 : Int32) (1 : Int32)).bind fun v26 => if v26 = 0 then (m_X1_fence_L25 m_X1_fence_L30) σ a1 a2 a3 a4 else m_X1_fence_L30 σ a1 a2 a3 a4 (0 : Int32))
def m_X1_cost_L61 (σ : st_T) (t0 : Int32) : Option ((Nat ⊕ Int32) × st_T) := some ((.inr t0), σ)
def m_X1_cost (σ : st_T) (a1 : Int32) (a2 : Int32) : Option ((Nat ⊕ Int32) × st_T) := (m_X1_herdAt σ a1).bind fun o3 => sm_ o3 (fun k4 => some ((.inl k4), σ)) (fun v5 => (m_X1_cell a2).bind fun o8 => sm_ o8 (fun k9 => some ((.inl k9), σ)) (fun v10 => if v5 < gN_ σ 80 then if (gP_ σ 1 31 0) < gN_ σ 87 then (m_X3_from σ 0 (gF_ σ 80 0 v5) (gF_ σ 87 3 (gP_ σ 1 31 0)) (0 : Int32)).bind fun σ15 => if inb a2 64 then if (gA_ σ15 61 0 a2.toNatClampNeg) = (1000000000 : Int32) then m_X1_cost_L61 σ15 (-1 : Int32) else m_X1_cost_L61 σ15 (gA_ σ15 61 0 a2.toNatClampNeg) else none else none else none))
def m_X1_way_L65 (σ : st_T) (t0 : Int32) : Option ((Nat ⊕ Int32) × st_T) := some ((.inr t0), σ)
def m_X1_way (σ : st_T) (a1 : Int32) (a2 : Int32) (a3 : Int32) : Option ((Nat ⊕ Int32) × st_T) := (m_X1_herdAt σ a1).bind fun o3 => sm_ o3 (fun k4 => some ((.inl k4), σ)) (fun v5 => (m_X1_cell a2).bind fun o8 => sm_ o8 (fun k9 => some ((.inl k9), σ)) (fun v10 => if v5 < gN_ σ 80 then if (gP_ σ 1 31 0) < gN_ σ 87 then (m_X3_goes σ 0 (gF_ σ 80 0 v5) a2 (gF_ σ 87 3 (gP_ σ 1 31 0))).bind fun σ15 => (m_X1_in a3 (0 : Int32) ((gF_ σ15 60 3 0) - (1 : Int32))).bind fun v18 => if v18 = 0 then m_X1_way_L65 σ15 (-1 : Int32) else if inb a3 64 then m_X1_way_L65 σ15 (gA_ σ15 62 0 a3.toNatClampNeg) else none else none else none))
def m_X1_near_L49 (k18 : st_T → Int32 → Int32 → Option st_T) (σ : st_T) (x2 : Int32) (x3 : Int32) (t1 : Int32) (t2 : Int32) (t3 : Int32) : Option st_T := if inb t1 64 then lt_ (sE_ σ 38 0 t1.toNatClampNeg (vp_nar .boolean (t2 &&& t3))) fun σ2 => k18 σ2 x2 (x3 + (1 : Int32)) else none
def m_X1_near_L18 : Nat → st_T → Int32 → Int32 → Option st_T
  | 0, _, _, _ => none
  | n + 1, σ, x2, x3 => if (64 : Int32) ≤ x3 then some σ else if inb x3 64 then if x2 < (gA_ σ 66 0 x3.toNatClampNeg) then (m_X1_near_L49 (m_X1_near_L18 n)) σ x2 x3 x3 (gA_ σ 38 0 x3.toNatClampNeg) (0 : Int32) else (m_X1_near_L49 (m_X1_near_L18 n)) σ x2 x3 x3 (gA_ σ 38 0 x3.toNatClampNeg) (1 : Int32) else none
def m_X1_near (σ : st_T) (a1 : Int32) (a2 : Int32) : Option st_T := (m_X1_rivers σ).bind fun σ9 => (m_X4_from σ9 a1 39 0).bind fun σ12 => (m_X1_near_L18 fu_) σ12 a2 (0 : Int32)
def m_X1_comes_L5 (i1 : Nat) : Nat → st_T → Int32 → Int32 → Int32 → Option (Int32 × st_T)
  | 0, _, _, _, _ => none
  | n + 1, σ, x2, x3, x4 => if (gF_ σ 70 2 0) ≤ x4 then some (x3, σ) else if alg_ σ 70 71 0 x4 then if (gP_ σ 71 (2 + x4.toNatClampNeg) 0) < gN_ σ 80 then bn2_ (m_X1_goes σ i1 (gP_ σ 71 (2 + x4.toNatClampNeg) 0) ((x2 / (30 : Int32)) - (x2 / (30 : Int32)) / (12 : Int32) * (12 : Int32))) fun v6 σ7 => (m_X1_comes_L5 i1 n) σ7 x2 (x3 + v6) (x4 + (1 : Int32)) else none else none
def m_X1_comes (σ : st_T) (i1 : Nat) (a2 : Int32) : Option (Int32 × st_T) := (m_X1_comes_L5 i1 fu_) σ a2 (0 : Int32) (0 : Int32)
def m_X1_foretells_L41 : Nat → st_T → Int32 → Int32 → Int32 → Option (Int32 × st_T)
  | 0, _, _, _, _ => none
  | n + 1, σ, x1, x2, x3 => if x1 ≤ x3 then some (x2, σ) else bn2_ (m_X1_comes σ 1 ((gF_ σ 1 33 0) + x3)) fun v4 σ5 => if (gP_ σ5 1 31 0) < gN_ σ5 87 then (m_X2_wears σ5 1 (gF_ σ5 87 5 (gP_ σ5 1 31 0))).bind fun σ9 => (m_X1_foretells_L41 n) σ9 x1 (x2 + v4) (x3 + (1 : Int32)) else none
def m_X1_foretells_L10 : Nat → st_T → Int32 → Int32 → Option (Int32 × st_T)
  | 0, _, _, _ => none
  | n + 1, σ, x1, x2 => if (10 : Int32) ≤ x2 then (m_X1_watch σ 1).bind fun σ13 => (m_X1_foretells_L41 fu_) σ13 x1 (0 : Int32) (0 : Int32) else if (gP_ σ 1 22 0) < 3 then if inb x2 10 then lt_ (sE_ σ 32 (gP_ σ 1 22 0) x2.toNatClampNeg (0 : Int32)) fun σ16 => (m_X1_foretells_L10 n) σ16 x1 (x2 + (1 : Int32)) else none else none
def m_X1_foretells (σ : st_T) (a1 : Int32) : Option (Int32 × st_T) := lt_ (sP_ σ 1 22 0 1) fun σ18 => (m_X1_foretells_L10 fu_) σ18 a1 (0 : Int32)
def m_X1_foretold_L54 (σ : st_T) (t0 : Int32) : Option ((Nat ⊕ Int32) × st_T) := some ((.inr t0), σ)
def m_X1_foretold_L15 (σ : st_T) (x1 : Int32) (x2 : Int32) (t0 : Int32) : Option ((Nat ⊕ Int32) × st_T) := (m_X1_wrong t0).bind fun o3 => sm_ o3 (fun k4 => some ((.inl k4), σ)) (fun v5 => (m_X1_some x2).bind fun o8 => sm_ o8 (fun k9 => some ((.inl k9), σ)) (fun v10 => (m_X2_like σ 1 0).bind fun σ13 => bn2_ (m_X1_foretells σ13 x2) fun v16 σ17 => if x1 = (-1 : Int32) then m_X1_foretold_L54 σ17 v16 else if (gP_ σ17 1 22 0) < 3 then if inb x1 10 then m_X1_foretold_L54 σ17 (gA_ σ17 32 (gP_ σ17 1 22 0) x1.toNatClampNeg) else none else none))
def m_X1_foretold (σ : st_T) (a1 : Int32) (a2 : Int32) : Option ((Nat ⊕ Int32) × st_T) := (m_X1_in a1 (-1 : Int32) (9 : Int32)).bind fun v23 => if v23 = 0 then m_X1_foretold_L15 σ a1 a2 (1 : Int32) else m_X1_foretold_L15 σ a1 a2 (0 : Int32)
def m_X1_pushed (σ : st_T) (a1 : Int32) (a2 : Int32) (a3 : Int32) : Option ((Nat ⊕ Int32) × st_T) := (m_X1_edge a1 a2).bind fun o3 => sm_ o3 (fun k4 => some ((.inl k4), σ)) (fun v5 => (m_X1_family a3).bind fun o8 => sm_ o8 (fun k9 => some ((.inl k9), σ)) (fun v10 => (m_X2_like σ 1 0).bind fun σ13 => bn2_ (m_X1_foretells σ13 (1 : Int32)) fun v16 σ17 => if (gP_ σ17 1 22 0) < 3 then if inb a3 10 then (m_X2_like σ17 1 0).bind fun σ22 => (m_X2_fence_2 σ22 1 a1 a2 (0 : Int32)).bind fun σ25 => bn2_ (m_X1_foretells σ25 (1 : Int32)) fun v28 σ29 => if (gP_ σ29 1 22 0) < 3 then some ((.inr ((gA_ σ17 32 (gP_ σ17 1 22 0) a3.toNatClampNeg) - (gA_ σ29 32 (gP_ σ29 1 22 0) a3.toNatClampNeg))), σ29) else none else none else none))
def m_X1_post_L234 (σ : st_T)  : Option ((Nat ⊕ Int32) × st_T) := some ((.inr (-1 : Int32)), σ)
def m_X1_post_L228 (k189 : st_T → Int32 → Int32 → Int32 → Int32 → Int32 → Option ((Nat ⊕ Int32) × st_T)) (σ : st_T) (x2 : Int32) (x3 : Int32) (x5 : Int32) (x7 : Int32) (x8 : Int32) : Option ((Nat ⊕ Int32) × st_T) := k189 σ x2 x3 x5 x7 (x8 + (1 : Int32))
def m_X1_post_L189 : Nat → st_T → Int32 → Int32 → Int32 → Int32 → Int32 → Option ((Nat ⊕ Int32) × st_T)
  | 0, _, _, _, _, _, _ => none
  | n + 1, σ, x2, x3, x5, x7, x8 => if x3 ≤ x8 then m_X1_post_L234 σ else if x2 < 0 then m_X1_post_L234 σ else if ((x5 >>> (x8 &&& 31)) &&& (1 : Int32)) = 0 then (m_X1_post_L228 (m_X1_post_L189 n)) σ x2 x3 x5 x7 x8 else if x7 = 0 then if inb x8 12 then some ((.inr (gA_ σ 24 0 x8.toNatClampNeg)), σ) else none else (m_X1_post_L228 (m_X1_post_L189 n)) σ x2 x3 x5 (x7 + (-1 : Int32)) x8
def m_X1_post_L177 (k47 : st_T → Int32 → Int32 → Int32 → Int32 → Int32 → Int32 → Option ((Nat ⊕ Int32) × st_T)) (σ : st_T) (x2 : Int32) (x3 : Int32) (x4 : Int32) (x5 : Int32) (x6 : Int32) (x7 : Int32) : Option ((Nat ⊕ Int32) × st_T) := k47 σ x2 x3 x4 x5 x6 (x7 + (1 : Int32))
def m_X1_post_L169 (k177 : st_T → Int32 → Int32 → Int32 → Int32 → Int32 → Int32 → Option ((Nat ⊕ Int32) × st_T)) (σ : st_T) (x2 : Int32) (x3 : Int32) (x4 : Int32) (x7 : Int32) (x8 : Int32) : Option ((Nat ⊕ Int32) × st_T) := k177 σ x2 x3 x4 x7 x8 x7
def m_X1_post_L120 (k82 : st_T → Int32 → Int32 → Int32 → Int32 → Int32 → Int32 → Int32 → Option ((Nat ⊕ Int32) × st_T)) (σ : st_T) (x2 : Int32) (x3 : Int32) (x4 : Int32) (x5 : Int32) (x6 : Int32) (x7 : Int32) (x8 : Int32) : Option ((Nat ⊕ Int32) × st_T) := k82 σ x2 x3 x4 x5 x6 x7 (x8 + (1 : Int32))
def m_X1_post_L82 (k177 : st_T → Int32 → Int32 → Int32 → Int32 → Int32 → Int32 → Option ((Nat ⊕ Int32) × st_T)) : Nat → st_T → Int32 → Int32 → Int32 → Int32 → Int32 → Int32 → Int32 → Option ((Nat ⊕ Int32) × st_T)
  | 0, _, _, _, _, _, _, _, _ => none
  | n + 1, σ, x2, x3, x4, x5, x6, x7, x8 => if x3 ≤ x8 then bn2_ (m_X1_foretells σ (1 : Int32)) fun v9 σ10 => if x6 < v9 then k177 σ10 x2 x3 x4 x5 x6 x7 else if v9 = x6 then if ((x7 &&& (x7 ^^^ x5)) &&& (-(x7 ^^^ x5))) = 0 then k177 σ10 x2 x3 x4 x5 x6 x7 else (m_X1_post_L169 k177) σ10 x2 x3 x4 x7 v9 else (m_X1_post_L169 k177) σ10 x2 x3 x4 x7 v9 else if ((x7 >>> (x8 &&& 31)) &&& (1 : Int32)) = (1 : Int32) then if inb x8 12 then if (gP_ σ 1 31 0) < gN_ σ 87 then (m_X2_frightens σ 1 (gA_ σ 24 0 x8.toNatClampNeg) (gF_ σ 87 4 (gP_ σ 1 31 0))).bind fun σ19 => (m_X1_post_L120 (m_X1_post_L82 k177 n)) σ19 x2 x3 x4 x5 x6 x7 x8 else none else none else (m_X1_post_L120 (m_X1_post_L82 k177 n)) σ x2 x3 x4 x5 x6 x7 x8
def m_X1_post_L47 : Nat → st_T → Int32 → Int32 → Int32 → Int32 → Int32 → Int32 → Option ((Nat ⊕ Int32) × st_T)
  | 0, _, _, _, _, _, _, _ => none
  | n + 1, σ, x2, x3, x4, x5, x6, x7 => if ((1 : Int32) <<< (x3 &&& 31)) ≤ x7 then (m_X1_post_L189 fu_) σ x2 x3 x5 x2 (0 : Int32) else (m_J19_bitCount x7).bind fun v23 => if v23 = x4 then (m_X2_like σ 1 0).bind fun σ27 => (m_X1_post_L82 (m_X1_post_L177 (m_X1_post_L47 n)) fu_) σ27 x2 x3 x4 x5 x6 x7 (0 : Int32) else (m_X1_post_L177 (m_X1_post_L47 n)) σ x2 x3 x4 x5 x6 x7
def m_X1_post_L14 (σ : st_T) (x1 : Int32) (x2 : Int32) (t0 : Int32) : Option ((Nat ⊕ Int32) × st_T) := (m_X1_wrong t0).bind fun o30 => sm_ o30 (fun k31 => some ((.inl k31), σ)) (fun v32 => bn2_ (m_X2_ripe σ 0) fun v35 σ36 => (m_X1_post_L47 fu_) σ36 x2 v35 (imin x1 v35) (0 : Int32) (1000000000 : Int32) (0 : Int32))
def m_X1_post (σ : st_T) (a1 : Int32) (a2 : Int32) : Option ((Nat ⊕ Int32) × st_T) := (m_X1_in a1 (1 : Int32) (3 : Int32)).bind fun v39 => if v39 = 0 then m_X1_post_L14 σ a1 a2 (1 : Int32) else m_X1_post_L14 σ a1 a2 (0 : Int32)
def m_X1_places_L154 (i1 : Nat) (σ : st_T)  : Option st_T := some σ
def m_X1_places_L123 (i1 : Nat) (σ : st_T) (x2 : Int32) (x4 : Int32) : Option st_T := if x4 = (-1 : Int32) then (m_X1_places_L154 i1) σ else if i1 < gN_ σ 80 then if i1 < gN_ σ 82 then if inb x4 20 then if i1 < gN_ σ 81 then (m_X1_near σ (gA_ σ 82 i1 x4.toNatClampNeg) ((gF_ σ 80 2 i1) * ((gA_ σ 81 i1 x4.toNatClampNeg) - x2))).bind fun σ8 => (m_X1_places_L154 i1) σ8 else none else none else none else none
def m_X1_places_L87 (i1 : Nat) (k36 : st_T → Int32 → Int32 → Int32 → Int32 → Option st_T) (σ : st_T) (x2 : Int32) (x3 : Int32) (x5 : Int32) (t0 : Int32) : Option st_T := k36 σ x2 x3 t0 (x5 + (1 : Int32))
def m_X1_places_L85 (i1 : Nat) (k87 : st_T → Int32 → Int32 → Int32 → Int32 → Option st_T) (σ : st_T) (x2 : Int32) (x3 : Int32) (x4 : Int32) (x5 : Int32) : Option st_T := k87 σ x2 x3 x5 x4
def m_X1_places_L62 (i1 : Nat) (k36 : st_T → Int32 → Int32 → Int32 → Int32 → Option st_T) (σ : st_T) (x2 : Int32) (x4 : Int32) (x5 : Int32) (t0 : Int32) : Option st_T := if x4 = (-1 : Int32) then if i1 < gN_ σ 80 then if i1 < gN_ σ 81 then if inb x5 20 then if (gA_ σ 81 i1 x5.toNatClampNeg) < x2 then (m_X1_places_L85 i1 (m_X1_places_L87 i1 k36)) σ x2 t0 x4 x5 else (m_X1_places_L87 i1 k36) σ x2 t0 x5 x5 else none else none else none else (m_X1_places_L85 i1 (m_X1_places_L87 i1 k36)) σ x2 t0 x4 x5
def m_X1_places_L36 (i1 : Nat) : Nat → st_T → Int32 → Int32 → Int32 → Int32 → Option st_T
  | 0, _, _, _, _, _ => none
  | n + 1, σ, x2, x3, x4, x5 => if i1 < gN_ σ 80 then if (gF_ σ 80 5 i1) ≤ x5 then if x3 = (-1 : Int32) then (m_X1_places_L123 i1) σ x2 x4 else if i1 < gN_ σ 82 then if inb x3 20 then if i1 < gN_ σ 81 then (m_X1_near σ (gA_ σ 82 i1 x3.toNatClampNeg) ((gF_ σ 80 2 i1) * (x2 - (gA_ σ 81 i1 x3.toNatClampNeg)))).bind fun σ22 => (m_X1_places_L123 i1) σ22 x2 x4 else none else none else none else if i1 < gN_ σ 81 then if inb x5 20 then if x2 < (gA_ σ 81 i1 x5.toNatClampNeg) then (m_X1_places_L62 i1 (m_X1_places_L36 i1 n)) σ x2 x4 x5 x3 else (m_X1_places_L62 i1 (m_X1_places_L36 i1 n)) σ x2 x4 x5 x5 else none else none else none
def m_X1_places_L2 (i1 : Nat) : Nat → st_T → Int32 → Int32 → Option st_T
  | 0, _, _, _ => none
  | n + 1, σ, x2, x3 => if (64 : Int32) ≤ x3 then (m_X1_places_L36 i1 fu_) σ x2 (-1 : Int32) (-1 : Int32) (0 : Int32) else (m_X2_isOpen σ 0 x3).bind fun v29 => if inb x3 64 then lt_ (sE_ σ 38 0 x3.toNatClampNeg (vp_nar .boolean v29)) fun σ31 => (m_X1_places_L2 i1 n) σ31 x2 (x3 + (1 : Int32)) else none
def m_X1_places (σ : st_T) (i1 : Nat) (a2 : Int32) : Option st_T := (m_X1_places_L2 i1 fu_) σ a2 (0 : Int32)
def m_X1_mayBe (σ : st_T) (a1 : Int32) (a2 : Int32) (a3 : Int32) : Option ((Nat ⊕ Int32) × st_T) := (m_X1_herdAt σ a1).bind fun o3 => sm_ o3 (fun k4 => some ((.inl k4), σ)) (fun v5 => (m_X1_cell a3).bind fun o8 => sm_ o8 (fun k9 => some ((.inl k9), σ)) (fun v10 => (m_X1_hour a2).bind fun o13 => sm_ o13 (fun k14 => some ((.inl k14), σ)) (fun v15 => (m_X1_places σ v5 a2).bind fun σ18 => if inb a3 64 then if bz (gA_ σ18 38 0 a3.toNatClampNeg) then some ((.inr (gA_ σ18 38 0 a3.toNatClampNeg)), σ18) else none else none)))
def m_X1_spots_L59 (k33 : st_T → Int32 → Int32 → Int32 → Option ((Nat ⊕ Int32) × st_T)) (σ : st_T) (x6 : Int32) (x7 : Int32) (t0 : Int32) (t1 : Int32) : Option ((Nat ⊕ Int32) × st_T) := k33 σ (t0 + t1) x6 (x7 + (1 : Int32))
def m_X1_spots_L33 : Nat → st_T → Int32 → Int32 → Int32 → Option ((Nat ⊕ Int32) × st_T)
  | 0, _, _, _, _ => none
  | n + 1, σ, x4, x6, x7 => if x6 ≤ x7 then some ((.inr x4), σ) else if inb x7 64 then if (gA_ σ 38 0 x7.toNatClampNeg) = 0 then (m_X1_spots_L59 (m_X1_spots_L33 n)) σ x6 x7 x4 (0 : Int32) else (m_X1_spots_L59 (m_X1_spots_L33 n)) σ x6 x7 x4 (1 : Int32) else none
def m_X1_spots (σ : st_T) (a1 : Int32) (a2 : Int32) : Option ((Nat ⊕ Int32) × st_T) := (m_X1_herdAt σ a1).bind fun o6 => sm_ o6 (fun k7 => some ((.inl k7), σ)) (fun v8 => (m_X1_hour a2).bind fun o11 => sm_ o11 (fun k12 => some ((.inl k12), σ)) (fun v13 => (m_X1_places σ v8 a2).bind fun σ16 => (m_X1_spots_L33 fu_) σ16 (0 : Int32) (64 : Int32) (0 : Int32)))
def m_X1_causeOf_L141 (i1 : Nat) (σ : st_T) (t0 : Int32) (t1 : Int32) : Option (Int32 × st_T) := some ((t0 + t1), σ)
def m_X1_causeOf_L131 (i1 : Nat) (σ : st_T) (x4 : Int32) (t0 : Int32) : Option (Int32 × st_T) := if x4 = 0 then (m_X1_causeOf_L141 i1) σ t0 (0 : Int32) else (m_X1_causeOf_L141 i1) σ t0 (2 : Int32)
def m_X1_causeOf_L120 (i1 : Nat) (σ : st_T) (x2 : Int32) (t0 : Int32) : Option (Int32 × st_T) := if x2 = 0 then (m_X1_causeOf_L131 i1) σ t0 (0 : Int32) else (m_X1_causeOf_L131 i1) σ t0 (1 : Int32)
def m_X1_causeOf_L105 (i1 : Nat) (σ : st_T) (x2 : Int32) (t0 : Int32) : Option (Int32 × st_T) := if i1 < gN_ σ 86 then if (gP_ σ 86 0 i1) < gN_ σ 85 then if t0 < (gF_ σ 85 2 (gP_ σ 86 0 i1)) then (m_X1_causeOf_L120 i1) σ x2 (0 : Int32) else (m_X1_causeOf_L120 i1) σ x2 (1 : Int32) else none else none
def m_X1_causeOf_L70 (i1 : Nat) (k4 : st_T → Int32 → Int32 → Option (Int32 × st_T)) (σ : st_T) (x3 : Int32) (t0 : Int32) (t1 : Int32) : Option (Int32 × st_T) := k4 σ (t0 ||| t1) (x3 + (1 : Int32))
def m_X1_causeOf_L65 (i1 : Nat) (k70 : st_T → Int32 → Int32 → Int32 → Option (Int32 × st_T)) (σ : st_T) (x3 : Int32) (t0 : Int32) : Option (Int32 × st_T) := k70 σ x3 t0 (1 : Int32)
def m_X1_causeOf_L4 (i1 : Nat) : Nat → st_T → Int32 → Int32 → Option (Int32 × st_T)
  | 0, _, _, _ => none
  | n + 1, σ, x2, x3 => if (gF_ σ 70 2 0) ≤ x3 then if i1 < gN_ σ 86 then (m_X1_windOf σ (gF_ σ 86 1 i1)).bind fun v10 => if (gF_ σ 1 37 0) ≤ v10 then (m_X1_causeOf_L105 i1) σ x2 (0 : Int32) else if inb v10 60 then (m_X1_causeOf_L105 i1) σ x2 (gA_ σ 28 0 v10.toNatClampNeg) else none else none else if alg_ σ 70 71 0 x3 then if (gP_ σ 71 (2 + x3.toNatClampNeg) 0) < gN_ σ 80 then if i1 < gN_ σ 86 then (m_X1_places σ (gP_ σ 71 (2 + x3.toNatClampNeg) 0) (gF_ σ 86 1 i1)).bind fun σ18 => if i1 < gN_ σ18 86 then if (gP_ σ18 86 0 i1) < gN_ σ18 85 then if inb (gF_ σ18 85 0 (gP_ σ18 86 0 i1)) 64 then if (gA_ σ18 38 0 (gF_ σ18 85 0 (gP_ σ18 86 0 i1)).toNatClampNeg) = 0 then if inb (gF_ σ18 85 1 (gP_ σ18 86 0 i1)) 64 then if (gA_ σ18 38 0 (gF_ σ18 85 1 (gP_ σ18 86 0 i1)).toNatClampNeg) = 0 then (m_X1_causeOf_L70 i1 (m_X1_causeOf_L4 i1 n)) σ18 x3 x2 (0 : Int32) else (m_X1_causeOf_L65 i1 (m_X1_causeOf_L70 i1 (m_X1_causeOf_L4 i1 n))) σ18 x3 x2 else none else (m_X1_causeOf_L65 i1 (m_X1_causeOf_L70 i1 (m_X1_causeOf_L4 i1 n))) σ18 x3 x2 else none else none else none else none else none else none
def m_X1_causeOf (σ : st_T) (i1 : Nat) : Option (Int32 × st_T) := (m_X1_causeOf_L4 i1 fu_) σ (0 : Int32) (0 : Int32)
def m_X1_causes_L87 (k29 : st_T → Int32 → Nat → Int32 → Int32 → Option ((Nat ⊕ Int32) × st_T)) (σ : st_T) (x2 : Int32) (ix3 : Nat) (x5 : Int32) (t0 : Int32) (t1 : Int32) : Option ((Nat ⊕ Int32) × st_T) := k29 σ x2 ix3 (t0 + t1) (x5 + (1 : Int32))
def m_X1_causes_L86 (k87 : st_T → Int32 → Nat → Int32 → Int32 → Int32 → Option ((Nat ⊕ Int32) × st_T)) (σ : st_T) (x2 : Int32) (ix3 : Nat) (x5 : Int32) (t0 : Int32) : Option ((Nat ⊕ Int32) × st_T) := k87 σ x2 ix3 x5 t0 (0 : Int32)
def m_X1_causes_L29 : Nat → st_T → Int32 → Nat → Int32 → Int32 → Option ((Nat ⊕ Int32) × st_T)
  | 0, _, _, _, _, _ => none
  | n + 1, σ, x2, ix3, x4, x5 => if (gF_ σ 76 2 0) ≤ x5 then some ((.inr x4), σ) else if alg_ σ 76 77 0 x5 then if (gP_ σ 77 (2 + x5.toNatClampNeg) 0) < gN_ σ 86 then if (gP_ σ 86 0 (gP_ σ 77 (2 + x5.toNatClampNeg) 0)) < gN_ σ 85 then if ix3 < gN_ σ 85 then if (gP_ σ 86 0 (gP_ σ 77 (2 + x5.toNatClampNeg) 0)) = ix3 then if alg_ σ 76 77 0 x5 then bn2_ (m_X1_causeOf σ (gP_ σ 77 (2 + x5.toNatClampNeg) 0)) fun v10 σ11 => if v10 = x2 then (m_X1_causes_L87 (m_X1_causes_L29 n)) σ11 x2 ix3 x5 x4 (1 : Int32) else (m_X1_causes_L86 (m_X1_causes_L87 (m_X1_causes_L29 n))) σ11 x2 ix3 x5 x4 else none else (m_X1_causes_L86 (m_X1_causes_L87 (m_X1_causes_L29 n))) σ x2 ix3 x5 x4 else none else none else none else none
def m_X1_causes_L20 (σ : st_T) (x2 : Int32) (ix3 : Nat) (t0 : Int32) : Option ((Nat ⊕ Int32) × st_T) := (m_X1_wrong t0).bind fun o15 => sm_ o15 (fun k16 => some ((.inl k16), σ)) (fun v17 => (m_X1_causes_L29 fu_) σ x2 ix3 (0 : Int32) (0 : Int32))
def m_X1_causes (σ : st_T) (a1 : Int32) (a2 : Int32) : Option ((Nat ⊕ Int32) × st_T) := (m_X1_wireAt σ a1).bind fun o20 => sm_ o20 (fun k21 => some ((.inl k21), σ)) (fun v22 => (m_X1_in a2 (0 : Int32) (3 : Int32)).bind fun v25 => if v25 = 0 then m_X1_causes_L20 σ a2 v22 (1 : Int32) else m_X1_causes_L20 σ a2 v22 (0 : Int32))
def m_X1_fix_L74 (σ : st_T) (x2 : Int32) (x3 : Int32) (ix4 : Nat) : Option ((Nat ⊕ Int32) × st_T) := (m_X1_places σ ix4 x2).bind fun σ3 => if inb x3 64 then if (gA_ σ3 38 0 x3.toNatClampNeg) = 0 then some ((.inr (-3 : Int32)), σ3) else if ix4 < gN_ σ3 80 then if ix4 < gN_ σ3 81 then if inb (gF_ σ3 80 5 ix4) 20 then lt_ (sE_ σ3 81 ix4 (gF_ σ3 80 5 ix4).toNatClampNeg x2) fun σ9 => if ix4 < gN_ σ9 82 then if inb (gF_ σ9 80 5 ix4) 20 then lt_ (sE_ σ9 82 ix4 (gF_ σ9 80 5 ix4).toNatClampNeg x3) fun σ15 => lt_ (sF_ σ15 80 5 ix4 ((gF_ σ15 80 5 ix4) + (1 : Int32))) fun σ20 => some ((.inr (gF_ σ20 80 5 ix4)), σ20) else none else none else none else none else none else none
def m_X1_fix_L31 (σ : st_T) (x2 : Int32) (x3 : Int32) (ix4 : Nat) (t0 : Int32) : Option ((Nat ⊕ Int32) × st_T) := (m_X1_wrong t0).bind fun o27 => sm_ o27 (fun k28 => some ((.inl k28), σ)) (fun v29 => if ix4 < gN_ σ 80 then if (gF_ σ 80 5 ix4) = (20 : Int32) then some ((.inr (-1 : Int32)), σ) else if (gF_ σ 80 5 ix4) ≤ 0 then m_X1_fix_L74 σ x2 x3 ix4 else if ix4 < gN_ σ 81 then if inb ((gF_ σ 80 5 ix4) - (1 : Int32)) 20 then if (gA_ σ 81 ix4 ((gF_ σ 80 5 ix4) - (1 : Int32)).toNatClampNeg) < x2 then m_X1_fix_L74 σ x2 x3 ix4 else some ((.inr (-2 : Int32)), σ) else none else none else none)
def m_X1_fix (σ : st_T) (a1 : Int32) (a2 : Int32) (a3 : Int32) : Option ((Nat ⊕ Int32) × st_T) := (m_X1_herdAt σ a1).bind fun o38 => sm_ o38 (fun k39 => some ((.inl k39), σ)) (fun v40 => (m_X1_cell a3).bind fun o43 => sm_ o43 (fun k44 => some ((.inl k44), σ)) (fun v45 => (m_X1_hour a2).bind fun o48 => sm_ o48 (fun k49 => some ((.inl k49), σ)) (fun v50 => (m_X2_isOpen σ 0 a3).bind fun v53 => if v53 = 0 then m_X1_fix_L31 σ a2 a3 v40 (1 : Int32) else m_X1_fix_L31 σ a2 a3 v40 (0 : Int32))))
def m_X1_cause (σ : st_T) (a1 : Int32) : Option ((Nat ⊕ Int32) × st_T) := (m_X1_tripAt σ a1).bind fun o3 => sm_ o3 (fun k4 => some ((.inl k4), σ)) (fun v5 => bn2_ (m_X1_causeOf σ v5) fun v8 σ9 => some ((.inr v8), σ9))
set_option maxHeartbeats 4000000 in
theorem c_X1_next (g : wg_T) (hgm : gm g = true) (l : Launch) (L : ly_T) (σ : st_T) (a1 : Int32) (a2 : Int32) (r_ : Int32) (hs : m_X1_next a1 a2 = some r_) : CI g l yX1_next (ws_ yX1_next cX1_next 4 (some .int)) 2 60 0 0 [.int a1, .int a2] L σ r_ σ := by
  refine wbody.met (by decide) (Nat.le_of_ble_eq_true rfl) ?_
  intro p e s m args below meth c ls hx hb hr hml hlocks hts hown hnm hW hl
  have hown : s.vm.findClass RX1 = some m.cls := hown
  have hl : lv_has ls 4 [(0, .int a1), (1, .int a2)] := hl
  unfold m_X1_next at hs
  have hL89 : ∀ (σ : st_T) (t0 : Int32) (H : Heap) (locs : List Loc) (ls : Array Slot), wv g L σ s H locs → lv_has ls 4 [] → m_X1_next_L89 t0 = some r_ → W p l e (wrm 2 60 0 0) s m args below meth c H locs 0 0 (MQ below (wQi g L r_ σ) args s 0 0 (fun q => gz g ≤ q)) (F0 m 89 ls [.int t0]) := by
    intro σ t0 H locs ls hW hl hs
    unfold m_X1_next_L89 at hs
    have hs := ww_S hs
    exact we_i hx hb hr hlocks hW hs rfl (Nat.le_of_ble_eq_true rfl) (Nat.le_of_ble_eq_true rfl) dX1_next_89
  have hL74 : ∀ (σ : st_T) (t0 : Int32) (H : Heap) (locs : List Loc) (ls : Array Slot), wv g L σ s H locs → lv_has ls 4 [] → m_X1_next_L74 t0 = some r_ → W p l e (wrm 2 60 0 0) s m args below meth c H locs 0 0 (MQ below (wQi g L r_ σ) args s 0 0 (fun q => gz g ≤ q)) (F0 m 74 ls [.int t0]) := by
    intro σ t0 H locs ls hW hl hs
    unfold m_X1_next_L74 at hs
    have hs := ww_S hs
    exact we_i hx hb hr hlocks hW hs rfl (Nat.le_of_ble_eq_true rfl) (Nat.le_of_ble_eq_true rfl) dX1_next_74
  have hL60 : ∀ (σ : st_T) (t0 : Int32) (H : Heap) (locs : List Loc) (ls : Array Slot), wv g L σ s H locs → lv_has ls 4 [] → m_X1_next_L60 t0 = some r_ → W p l e (wrm 2 60 0 0) s m args below meth c H locs 0 0 (MQ below (wQi g L r_ σ) args s 0 0 (fun q => gz g ≤ q)) (F0 m 60 ls [.int t0]) := by
    intro σ t0 H locs ls hW hl hs
    unfold m_X1_next_L60 at hs
    have hs := ww_S hs
    exact we_i hx hb hr hlocks hW hs rfl (Nat.le_of_ble_eq_true rfl) (Nat.le_of_ble_eq_true rfl) dX1_next_60
  have hL48 : ∀ (σ : st_T) (t0 : Int32) (H : Heap) (locs : List Loc) (ls : Array Slot), wv g L σ s H locs → lv_has ls 4 [] → m_X1_next_L48 t0 = some r_ → W p l e (wrm 2 60 0 0) s m args below meth c H locs 0 0 (MQ below (wQi g L r_ σ) args s 0 0 (fun q => gz g ≤ q)) (F0 m 48 ls [.int t0]) := by
    intro σ t0 H locs ls hW hl hs
    unfold m_X1_next_L48 at hs
    have hs := ww_S hs
    exact we_i hx hb hr hlocks hW hs rfl (Nat.le_of_ble_eq_true rfl) (Nat.le_of_ble_eq_true rfl) dX1_next_48
  refine lv_iload_n hx hb dX1_next_0 rfl (lv_at hl 0 rfl) ?_
  refine lv_bipush (v := 8) hx hb dX1_next_1 (by decide) ?_
  refine lv_irem hx hb dX1_next_3 (by decide) ?_
  refine lv_istore_n (lv' := [(2, .int (a1 - a1 / (8 : Int32) * (8 : Int32))), (0, .int a1), (1, .int a2)]) hx hb dX1_next_4 rfl hl (by decide) rfl (fun ls hl => ?_)
  refine lv_iload_n hx hb dX1_next_5 rfl (lv_at hl 1 rfl) ?_
  refine lv_bipush (v := 8) hx hb dX1_next_6 (by decide) ?_
  refine lv_idiv hx hb dX1_next_8 (by decide) ?_
  refine lv_istore_n (lv' := [(3, .int (a1 / (8 : Int32))), (2, .int (a1 - a1 / (8 : Int32) * (8 : Int32))), (0, .int a1), (1, .int a2)]) hx hb dX1_next_9 rfl hl (by decide) rfl (fun ls hl => ?_)
  refine lv_iload_n hx hb dX1_next_10 rfl (lv_at hl 3 rfl) ?_
  by_cases hc1 : a2 = (0 : Int32)
  · have hs := ww_T hs hc1
    refine lv_tableIn (off := 25) (tgt := 36) hx hb dX1_next_11 (by rw [hc1]; decide) (by rw [hc1]; decide) (by rw [hc1]; rfl) (by decide) ?_
    refine lv_iload_n hx hb dX1_next_36 rfl (lv_at hl 0 rfl) ?_
    refine lv_if_le (tgt := 47) hx hb dX1_next_37 (by decide) (fun hc2 => ?_) (fun hc2 => ?_)
    · have hs := ww_T hs hc2
      refine lv_iconst (v := (-1)) hx hb dX1_next_47 (by decide) ?_
      exact hL48 σ (-1 : Int32) _ _ ls hW (lv_sub hl [] rfl) hs
    · have hs := ww_F hs hc2
      refine lv_iload_n hx hb dX1_next_40 rfl (lv_at hl 2 rfl) ?_
      refine lv_bipush (v := 8) hx hb dX1_next_41 (by decide) ?_
      refine lv_isub hx hb dX1_next_43 ?_
      refine lv_goto (tgt := 48) hx hb dX1_next_44 (by decide) ?_
      exact hL48 σ (a1 - (8 : Int32)) _ _ ls hW (lv_sub hl [] rfl) hs
  · have hs := ww_F hs hc1
    by_cases hc3 : a2 = (1 : Int32)
    · have hs := ww_T hs hc3
      refine lv_tableIn (off := 38) (tgt := 49) hx hb dX1_next_11 (by rw [hc3]; decide) (by rw [hc3]; decide) (by rw [hc3]; rfl) (by decide) ?_
      refine lv_iload_n hx hb dX1_next_49 rfl (lv_at hl 1 rfl) ?_
      refine lv_if_le (tgt := 59) hx hb dX1_next_50 (by decide) (fun hc4 => ?_) (fun hc4 => ?_)
      · have hs := ww_T hs hc4
        refine lv_iconst (v := (-1)) hx hb dX1_next_59 (by decide) ?_
        exact hL60 σ (-1 : Int32) _ _ ls hW (lv_sub hl [] rfl) hs
      · have hs := ww_F hs hc4
        refine lv_iload_n hx hb dX1_next_53 rfl (lv_at hl 2 rfl) ?_
        refine lv_iconst (v := 1) hx hb dX1_next_54 (by decide) ?_
        refine lv_isub hx hb dX1_next_55 ?_
        refine lv_goto (tgt := 60) hx hb dX1_next_56 (by decide) ?_
        exact hL60 σ (a1 - (1 : Int32)) _ _ ls hW (lv_sub hl [] rfl) hs
    · have hs := ww_F hs hc3
      by_cases hc5 : a2 = (2 : Int32)
      · have hs := ww_T hs hc5
        refine lv_tableIn (off := 50) (tgt := 61) hx hb dX1_next_11 (by rw [hc5]; decide) (by rw [hc5]; decide) (by rw [hc5]; rfl) (by decide) ?_
        refine lv_iload_n hx hb dX1_next_61 rfl (lv_at hl 1 rfl) ?_
        refine lv_bipush (v := 7) hx hb dX1_next_62 (by decide) ?_
        refine lv_icmp_ge (tgt := 73) hx hb dX1_next_64 (by decide) (fun hc6 => ?_) (fun hc6 => ?_)
        · have hs := ww_T hs hc6
          refine lv_iconst (v := (-1)) hx hb dX1_next_73 (by decide) ?_
          exact hL74 σ (-1 : Int32) _ _ ls hW (lv_sub hl [] rfl) hs
        · have hs := ww_F hs hc6
          refine lv_iload_n hx hb dX1_next_67 rfl (lv_at hl 2 rfl) ?_
          refine lv_iconst (v := 1) hx hb dX1_next_68 (by decide) ?_
          refine lv_iadd hx hb dX1_next_69 ?_
          refine lv_goto (tgt := 74) hx hb dX1_next_70 (by decide) ?_
          exact hL74 σ (a1 + (1 : Int32)) _ _ ls hW (lv_sub hl [] rfl) hs
      · have hs := ww_F hs hc5
        refine lv_tableOut (tgt := 75) hx hb dX1_next_11 (by have z0 := lv_neT (k := (0 : Int32)) (a := 0) hc1 rfl; have z1 := lv_neT (k := (1 : Int32)) (a := 1) hc3 rfl; have z2 := lv_neT (k := (2 : Int32)) (a := 2) hc5 rfl; omega) (by decide) ?_
        refine lv_iload_n hx hb dX1_next_75 rfl (lv_at hl 0 rfl) ?_
        refine lv_bipush (v := 7) hx hb dX1_next_76 (by decide) ?_
        refine lv_icmp_ge (tgt := 88) hx hb dX1_next_78 (by decide) (fun hc7 => ?_) (fun hc7 => ?_)
        · have hs := ww_T hs hc7
          refine lv_iconst (v := (-1)) hx hb dX1_next_88 (by decide) ?_
          exact hL89 σ (-1 : Int32) _ _ ls hW (lv_sub hl [] rfl) hs
        · have hs := ww_F hs hc7
          refine lv_iload_n hx hb dX1_next_81 rfl (lv_at hl 2 rfl) ?_
          refine lv_bipush (v := 8) hx hb dX1_next_82 (by decide) ?_
          refine lv_iadd hx hb dX1_next_84 ?_
          refine lv_goto (tgt := 89) hx hb dX1_next_85 (by decide) ?_
          exact hL89 σ (a1 + (8 : Int32)) _ _ ls hW (lv_sub hl [] rfl) hs
set_option maxHeartbeats 4000000 in
theorem c_X1_isTold (g : wg_T) (hgm : gm g = true) (l : Launch) (L : ly_T) (σ : st_T) (a1 : Int32) (r_ : Int32) (hs : m_X1_isTold σ a1 = some r_) : CI g l yX1_isTold (ws_ yX1_isTold cX1_isTold 4 (some .boolean)) 2 60 0 0 [.ref (L 1 0), .int a1] L σ r_ σ := by
  refine wbody.met (by decide) (Nat.le_of_ble_eq_true rfl) ?_
  intro p e s m args below meth c ls hx hb hr hml hlocks hts hown hnm hW hl
  have hown : s.vm.findClass RX1 = some m.cls := hown
  have hl : lv_has ls 4 [(0, .ref (L 1 0)), (1, .int a1)] := hl
  unfold m_X1_isTold at hs
  have hL4 : ∀ (n4 : Nat), ∀ (σ : st_T) (x1 : Int32) (x2 : Int32) (x3 : Int32) (H : Heap) (locs : List Loc) (ls : Array Slot), wv g L σ s H locs → lv_has ls 4 [(0, .ref (L 1 0)), (1, .int x1), (2, .int x2), (3, .int x3)] → (m_X1_isTold_L4 n4) σ x1 x2 x3 = some r_ → W p l e (wrm 2 60 0 0) s m args below meth c H locs 0 0 (MQ below (wQi g L r_ σ) args s 0 0 (fun q => gz g ≤ q)) (F0 m 4 ls []) := by
    intro n4
    induction n4 with
    | zero => intro σ x1 x2 x3 H locs ls hW hl hs; rw [m_X1_isTold_L4] at hs; cases hs
    | succ n4 ih4 =>
      have hL28 : ∀ (σ : st_T) (x1 : Int32) (x3 : Int32) (t0 : Int32) (t1 : Int32) (H : Heap) (locs : List Loc) (ls : Array Slot), wv g L σ s H locs → lv_has ls 4 [(0, .ref (L 1 0)), (1, .int x1), (3, .int x3)] → (m_X1_isTold_L28 (m_X1_isTold_L4 n4)) σ x1 x3 t0 t1 = some r_ → W p l e (wrm 2 60 0 0) s m args below meth c H locs 0 0 (MQ below (wQi g L r_ σ) args s 0 0 (fun q => gz g ≤ q)) (F0 m 28 ls [.int t1, .int t0]) := by
        intro σ x1 x3 t0 t1 H locs ls hW hl hs
        unfold m_X1_isTold_L28 at hs
        refine lv_ior hx hb dX1_isTold_28 ?_
        refine lv_istore_n (lv' := [(2, .int (t0 ||| t1)), (0, .ref (L 1 0)), (1, .int x1), (3, .int x3)]) hx hb dX1_isTold_29 rfl hl (by decide) rfl (fun ls hl => ?_)
        refine lv_iinc (v := (x3 + (1 : Int32))) (lv' := [(3, .int (x3 + (1 : Int32))), (2, .int (t0 ||| t1)), (0, .ref (L 1 0)), (1, .int x1)]) hx hb dX1_isTold_30 hl (k := 3) rfl rfl (by decide) rfl (fun ls hl => ?_)
        refine lv_goto (tgt := 4) hx hb dX1_isTold_33 (by decide) ?_
        exact ih4 σ x1 (t0 ||| t1) (x3 + (1 : Int32)) _ _ ls hW (lv_sub hl [2, 3, 1, 0] rfl) hs
      intro σ x1 x2 x3 H locs ls hW hl hs
      rw [m_X1_isTold_L4] at hs
      refine lv_iload_n hx hb dX1_isTold_4 rfl (lv_at hl 3 rfl) ?_
      refine lv_aload_n hx hb dX1_isTold_5 rfl (lv_at hl 0 rfl) ?_
      refine gf_X1_296 hx hb hts hown hW (pr_st (hW.rd hgm) (Nat.le_of_ble_eq_true rfl)) dX1_isTold_6 ?_
      refine lv_icmp_ge (tgt := 36) hx hb dX1_isTold_9 (by decide) (fun hc1 => ?_) (fun hc1 => ?_)
      · have hs := ww_T hs hc1
        refine lv_iload_n hx hb dX1_isTold_36 rfl (lv_at hl 2 rfl) ?_
        obtain ⟨hc2, hs⟩ := ww_chk hs
        have hs := ww_S hs
        exact we_z hx hb hr hlocks hW hc2 hs rfl (Nat.le_of_ble_eq_true rfl) (Nat.le_of_ble_eq_true rfl) dX1_isTold_37
      · have hs := ww_F hs hc1
        refine lv_iload_n hx hb dX1_isTold_12 rfl (lv_at hl 2 rfl) ?_
        refine lv_aload_n hx hb dX1_isTold_13 rfl (lv_at hl 0 rfl) ?_
        refine gf_X1_88 hx hb hts hown hW (pr_st (hW.rd hgm) (Nat.le_of_ble_eq_true rfl)) (hW.fl hgm (pr_st (hW.rd hgm) (Nat.le_of_ble_eq_true rfl)) 11 (by decide) rfl (by decide)) dX1_isTold_14 ?_
        refine lv_iload_n hx hb dX1_isTold_17 rfl (lv_at hl 3 rfl) ?_
        obtain ⟨hc3, hs⟩ := ww_chk hs
        refine ww_iald hx hb hW 21 0 (pr_st (hW.rd hgm) (Nat.le_of_ble_eq_true rfl)) rfl hc3 dX1_isTold_18 ?_
        refine lv_iload_n hx hb dX1_isTold_19 rfl (lv_at hl 1 rfl) ?_
        refine lv_icmp_ne (tgt := 27) hx hb dX1_isTold_20 (by decide) (fun hc4 => ?_) (fun hc4 => ?_)
        · have hs := ww_F hs hc4
          refine lv_iconst (v := 0) hx hb dX1_isTold_27 (by decide) ?_
          exact hL28 σ x1 x3 x2 (0 : Int32) _ _ ls hW (lv_sub hl [0, 1, 3] rfl) hs
        · have hs := ww_T hs hc4
          refine lv_iconst (v := 1) hx hb dX1_isTold_23 (by decide) ?_
          refine lv_goto (tgt := 28) hx hb dX1_isTold_24 (by decide) ?_
          exact hL28 σ x1 x3 x2 (1 : Int32) _ _ ls hW (lv_sub hl [0, 1, 3] rfl) hs
  refine lv_iconst (v := 0) hx hb dX1_isTold_0 (by decide) ?_
  refine lv_istore_n (lv' := [(2, .int (0 : Int32)), (0, .ref (L 1 0)), (1, .int a1)]) hx hb dX1_isTold_1 rfl hl (by decide) rfl (fun ls hl => ?_)
  refine lv_iconst (v := 0) hx hb dX1_isTold_2 (by decide) ?_
  refine lv_istore_n (lv' := [(3, .int (0 : Int32)), (2, .int (0 : Int32)), (0, .ref (L 1 0)), (1, .int a1)]) hx hb dX1_isTold_3 rfl hl (by decide) rfl (fun ls hl => ?_)
  exact hL4 fu_ σ a1 (0 : Int32) (0 : Int32) _ _ ls hW (lv_sub hl [2, 3, 1, 0] rfl) hs
set_option maxHeartbeats 4000000 in
theorem c_X1_mayTurn (g : wg_T) (hgm : gm g = true) (l : Launch) (L : ly_T) (σ : st_T) (a1 : Int32) (r_ : Int32) (hs : m_X1_mayTurn σ a1 = some r_) : CI g l yX1_mayTurn (ws_ yX1_mayTurn cX1_mayTurn 2 (some .boolean)) 3 83 0 0 [.ref (L 1 0), .int a1] L σ r_ σ := by
  refine wbody.met (by decide) (Nat.le_of_ble_eq_true rfl) ?_
  intro p e s m args below meth c ls hx hb hr hml hlocks hts hown hnm hW hl
  have hown : s.vm.findClass RX1 = some m.cls := hown
  have hl : lv_has ls 2 [(0, .ref (L 1 0)), (1, .int a1)] := hl
  unfold m_X1_mayTurn at hs
  have hL22 : ∀ (σ : st_T) (t0 : Int32) (H : Heap) (locs : List Loc) (ls : Array Slot), wv g L σ s H locs → lv_has ls 2 [] → m_X1_mayTurn_L22 σ t0 = some r_ → W p l e (wrm 3 83 0 0) s m args below meth c H locs 0 0 (MQ below (wQi g L r_ σ) args s 0 0 (fun q => gz g ≤ q)) (F0 m 22 ls [.int t0]) := by
    intro σ t0 H locs ls hW hl hs
    unfold m_X1_mayTurn_L22 at hs
    obtain ⟨hc1, hs⟩ := ww_chk hs
    have hs := ww_S hs
    exact we_z hx hb hr hlocks hW hc1 hs rfl (Nat.le_of_ble_eq_true rfl) (Nat.le_of_ble_eq_true rfl) dX1_mayTurn_22
  have hL21 : ∀ (σ : st_T)  (H : Heap) (locs : List Loc) (ls : Array Slot), wv g L σ s H locs → lv_has ls 2 [] → (m_X1_mayTurn_L21 m_X1_mayTurn_L22) σ = some r_ → W p l e (wrm 3 83 0 0) s m args below meth c H locs 0 0 (MQ below (wQi g L r_ σ) args s 0 0 (fun q => gz g ≤ q)) (F0 m 21 ls []) := by
    intro σ H locs ls hW hl hs
    unfold m_X1_mayTurn_L21 at hs
    refine lv_iconst (v := 0) hx hb dX1_mayTurn_21 (by decide) ?_
    exact hL22 σ (0 : Int32) _ _ ls hW (lv_sub hl [] rfl) hs
  refine lv_aload_n hx hb dX1_mayTurn_0 rfl (lv_at hl 0 rfl) ?_
  refine gf_X1_130 hx hb hts hown hW (pr_st (hW.rd hgm) (Nat.le_of_ble_eq_true rfl)) (hW.fl hgm (pr_st (hW.rd hgm) (Nat.le_of_ble_eq_true rfl)) 25 (by decide) rfl (by decide)) dX1_mayTurn_1 ?_
  refine lv_iload_n hx hb dX1_mayTurn_4 rfl (lv_at hl 1 rfl) ?_
  obtain ⟨hc2, hs⟩ := ww_chk hs
  refine ww_zald hx hb hW 35 0 (pr_st (hW.rd hgm) (Nat.le_of_ble_eq_true rfl)) rfl hc2 dX1_mayTurn_5 ?_
  refine lv_if_ne (tgt := 21) hx hb dX1_mayTurn_6 (by decide) (fun hc3 => ?_) (fun hc3 => ?_)
  · have hs := ww_F hs hc3
    exact hL21 σ _ _ ls hW (lv_sub hl [] rfl) hs
  · have hs := ww_T hs hc3
    refine lv_aload_n hx hb dX1_mayTurn_9 rfl (lv_at hl 0 rfl) ?_
    refine lv_iload_n hx hb dX1_mayTurn_10 rfl (lv_at hl 1 rfl) ?_
    obtain ⟨v6, hc4, hs⟩ := ww_bnd hs
    refine ww_ci (va_runV (As := [.int a1]) (rest := []) ⟨hx, hb, hml, hown, hts⟩ (c_X1_isTold g hgm l L σ a1 _ hc4) (cwV 1 hts (lw_V q714 q716 qs9 q111 q717) rfl rfl rfl hd_X1_isTold ⟨(Nat.le_of_ble_eq_true rfl), (Nat.le_of_ble_eq_true rfl)⟩) (ww_preV hW (pr_st (hW.rd hgm) (Nat.le_of_ble_eq_true rfl)) (obv_0 rfl) rfl) rfl rfl hl.1 rfl (lv_room (Nat.le_of_ble_eq_true rfl)) dX1_mayTurn_11 ⟨Nat.le_of_ble_eq_true rfl, Nat.le_of_ble_eq_true rfl⟩) hW (fun H locs hW => ?_)
    refine lv_if_ne (tgt := 21) hx hb dX1_mayTurn_14 (by decide) (fun hc7 => ?_) (fun hc7 => ?_)
    · have hs := ww_F hs hc7
      exact hL21 σ _ _ ls hW (lv_sub hl [] rfl) hs
    · have hs := ww_T hs hc7
      refine lv_iconst (v := 1) hx hb dX1_mayTurn_17 (by decide) ?_
      refine lv_goto (tgt := 22) hx hb dX1_mayTurn_18 (by decide) ?_
      exact hL22 σ (1 : Int32) _ _ ls hW (lv_sub hl [] rfl) hs
set_option maxHeartbeats 4000000 in
theorem c_X1_joined (g : wg_T) (hgm : gm g = true) (l : Launch) (L : ly_T) (σ : st_T)  (r_ : Int32) (hs : m_X1_joined σ = some r_) : CI g l yX1_joined (ws_ yX1_joined cX1_joined 6 (some .int)) 2 60 0 0 [.ref (L 1 0)] L σ r_ σ := by
  refine wbody.met (by decide) (Nat.le_of_ble_eq_true rfl) ?_
  intro p e s m args below meth c ls hx hb hr hml hlocks hts hown hnm hW hl
  have hown : s.vm.findClass RX1 = some m.cls := hown
  have hl : lv_has ls 6 [(0, .ref (L 1 0))] := hl
  unfold m_X1_joined at hs
  have hL13 : ∀ (n13 : Nat), ∀ (σ : st_T) (x1 : Int32) (x3 : Int32) (x4 : Int32) (H : Heap) (locs : List Loc) (ls : Array Slot), wv g L σ s H locs → lv_has ls 6 [(1, .int x1), (2, .ref (L 36 0)), (3, .int x3), (4, .int x4)] → (m_X1_joined_L13 n13) σ x1 x3 x4 = some r_ → W p l e (wrm 2 60 0 0) s m args below meth c H locs 0 0 (MQ below (wQi g L r_ σ) args s 0 0 (fun q => gz g ≤ q)) (F0 m 13 ls []) := by
    intro n13
    induction n13 with
    | zero => intro σ x1 x3 x4 H locs ls hW hl hs; rw [m_X1_joined_L13] at hs; cases hs
    | succ n13 ih13 =>
      have hL36 : ∀ (σ : st_T) (x3 : Int32) (x4 : Int32) (t0 : Int32) (t1 : Int32) (H : Heap) (locs : List Loc) (ls : Array Slot), wv g L σ s H locs → lv_has ls 6 [(2, .ref (L 36 0)), (3, .int x3), (4, .int x4)] → (m_X1_joined_L36 (m_X1_joined_L13 n13)) σ x3 x4 t0 t1 = some r_ → W p l e (wrm 2 60 0 0) s m args below meth c H locs 0 0 (MQ below (wQi g L r_ σ) args s 0 0 (fun q => gz g ≤ q)) (F0 m 36 ls [.int t1, .int t0]) := by
        intro σ x3 x4 t0 t1 H locs ls hW hl hs
        unfold m_X1_joined_L36 at hs
        refine lv_iadd hx hb dX1_joined_36 ?_
        refine lv_istore_n (lv' := [(1, .int (t0 + t1)), (2, .ref (L 36 0)), (3, .int x3), (4, .int x4)]) hx hb dX1_joined_37 rfl hl (by decide) rfl (fun ls hl => ?_)
        refine lv_iinc (v := (x4 + (1 : Int32))) (lv' := [(4, .int (x4 + (1 : Int32))), (1, .int (t0 + t1)), (2, .ref (L 36 0)), (3, .int x3)]) hx hb dX1_joined_38 hl (k := 3) rfl rfl (by decide) rfl (fun ls hl => ?_)
        refine lv_goto (tgt := 13) hx hb dX1_joined_41 (by decide) ?_
        exact ih13 σ (t0 + t1) x3 (x4 + (1 : Int32)) _ _ ls hW (lv_sub hl [1, 2, 3, 0] rfl) hs
      intro σ x1 x3 x4 H locs ls hW hl hs
      rw [m_X1_joined_L13] at hs
      refine lv_iload hx hb dX1_joined_13 (lv_at hl 3 rfl) ?_
      refine lv_iload_n hx hb dX1_joined_15 rfl (lv_at hl 2 rfl) ?_
      refine lv_icmp_ge (tgt := 44) hx hb dX1_joined_16 (by decide) (fun hc1 => ?_) (fun hc1 => ?_)
      · have hs := ww_T hs hc1
        refine lv_iload_n hx hb dX1_joined_44 rfl (lv_at hl 0 rfl) ?_
        have hs := ww_S hs
        exact we_i hx hb hr hlocks hW hs rfl (Nat.le_of_ble_eq_true rfl) (Nat.le_of_ble_eq_true rfl) dX1_joined_45
      · have hs := ww_F hs hc1
        refine lv_aload_n hx hb dX1_joined_19 rfl (lv_at hl 1 rfl) ?_
        refine lv_iload hx hb dX1_joined_20 (lv_at hl 3 rfl) ?_
        obtain ⟨hc2, hs⟩ := ww_chk hs
        refine ww_zald hx hb hW 36 0 (pr_st (hW.rd hgm) (Nat.le_of_ble_eq_true rfl)) rfl hc2 dX1_joined_22 ?_
        refine lv_istore (lv' := [(5, .int (gA_ σ 36 0 x4.toNatClampNeg)), (1, .int x1), (2, .ref (L 36 0)), (3, .int x3), (4, .int x4)]) hx hb dX1_joined_23 hl (by decide) rfl (fun ls hl => ?_)
        refine lv_iload_n hx hb dX1_joined_25 rfl (lv_at hl 1 rfl) ?_
        refine lv_iload hx hb dX1_joined_26 (lv_at hl 0 rfl) ?_
        refine lv_if_eq (tgt := 35) hx hb dX1_joined_28 (by decide) (fun hc3 => ?_) (fun hc3 => ?_)
        · have hs := ww_T hs hc3
          refine lv_iconst (v := 0) hx hb dX1_joined_35 (by decide) ?_
          exact hL36 σ x3 x4 x1 (0 : Int32) _ _ ls hW (lv_sub hl [2, 3, 4] rfl) hs
        · have hs := ww_F hs hc3
          refine lv_iconst (v := 1) hx hb dX1_joined_31 (by decide) ?_
          refine lv_goto (tgt := 36) hx hb dX1_joined_32 (by decide) ?_
          exact hL36 σ x3 x4 x1 (1 : Int32) _ _ ls hW (lv_sub hl [2, 3, 4] rfl) hs
  refine lv_iconst (v := 0) hx hb dX1_joined_0 (by decide) ?_
  refine lv_istore_n (lv' := [(1, .int (0 : Int32)), (0, .ref (L 1 0))]) hx hb dX1_joined_1 rfl hl (by decide) rfl (fun ls hl => ?_)
  refine lv_aload_n hx hb dX1_joined_2 rfl (lv_at hl 1 rfl) ?_
  refine gf_X1_134 hx hb hts hown hW (pr_st (hW.rd hgm) (Nat.le_of_ble_eq_true rfl)) (hW.fl hgm (pr_st (hW.rd hgm) (Nat.le_of_ble_eq_true rfl)) 26 (by decide) rfl (by decide)) dX1_joined_3 ?_
  refine lv_astore_n (lv' := [(2, .ref (L 36 0)), (1, .int (0 : Int32)), (0, .ref (L 1 0))]) hx hb dX1_joined_6 rfl hl (by decide) rfl (fun ls hl => ?_)
  refine lv_aload_n hx hb dX1_joined_7 rfl (lv_at hl 0 rfl) ?_
  refine ww_alen (v := 10) hx hb hW 36 0 (pr_st (hW.rd hgm) (Nat.le_of_ble_eq_true rfl)) rfl rfl rfl dX1_joined_8 ?_
  refine lv_istore_n (lv' := [(3, .int (10 : Int32)), (2, .ref (L 36 0)), (1, .int (0 : Int32)), (0, .ref (L 1 0))]) hx hb dX1_joined_9 rfl hl (by decide) rfl (fun ls hl => ?_)
  refine lv_iconst (v := 0) hx hb dX1_joined_10 (by decide) ?_
  refine lv_istore (lv' := [(4, .int (0 : Int32)), (3, .int (10 : Int32)), (2, .ref (L 36 0)), (1, .int (0 : Int32)), (0, .ref (L 1 0))]) hx hb dX1_joined_11 hl (by decide) rfl (fun ls hl => ?_)
  exact hL13 fu_ σ (0 : Int32) (10 : Int32) (0 : Int32) _ _ ls hW (lv_sub hl [3, 2, 1, 0] rfl) hs
set_option maxHeartbeats 4000000 in
theorem c_X1_in (g : wg_T) (hgm : gm g = true) (l : Launch) (L : ly_T) (σ : st_T) (a1 : Int32) (a2 : Int32) (a3 : Int32) (r_ : Int32) (hs : m_X1_in a1 a2 a3 = some r_) : CI g l yX1_in (ws_ yX1_in cX1_in 3 (some .boolean)) 2 60 0 0 [.int a1, .int a2, .int a3] L σ r_ σ := by
  refine wbody.met (by decide) (Nat.le_of_ble_eq_true rfl) ?_
  intro p e s m args below meth c ls hx hb hr hml hlocks hts hown hnm hW hl
  have hown : s.vm.findClass RX1 = some m.cls := hown
  have hl : lv_has ls 3 [(0, .int a1), (1, .int a2), (2, .int a3)] := hl
  unfold m_X1_in at hs
  have hL15 : ∀ (σ : st_T) (t0 : Int32) (H : Heap) (locs : List Loc) (ls : Array Slot), wv g L σ s H locs → lv_has ls 3 [] → m_X1_in_L15 t0 = some r_ → W p l e (wrm 2 60 0 0) s m args below meth c H locs 0 0 (MQ below (wQi g L r_ σ) args s 0 0 (fun q => gz g ≤ q)) (F0 m 15 ls [.int t0]) := by
    intro σ t0 H locs ls hW hl hs
    unfold m_X1_in_L15 at hs
    obtain ⟨hc1, hs⟩ := ww_chk hs
    have hs := ww_S hs
    exact we_z hx hb hr hlocks hW hc1 hs rfl (Nat.le_of_ble_eq_true rfl) (Nat.le_of_ble_eq_true rfl) dX1_in_15
  have hL14 : ∀ (σ : st_T)  (H : Heap) (locs : List Loc) (ls : Array Slot), wv g L σ s H locs → lv_has ls 3 [] → (m_X1_in_L14 m_X1_in_L15) = some r_ → W p l e (wrm 2 60 0 0) s m args below meth c H locs 0 0 (MQ below (wQi g L r_ σ) args s 0 0 (fun q => gz g ≤ q)) (F0 m 14 ls []) := by
    intro σ H locs ls hW hl hs
    unfold m_X1_in_L14 at hs
    refine lv_iconst (v := 0) hx hb dX1_in_14 (by decide) ?_
    exact hL15 σ (0 : Int32) _ _ ls hW (lv_sub hl [] rfl) hs
  refine lv_iload_n hx hb dX1_in_0 rfl (lv_at hl 0 rfl) ?_
  refine lv_iload_n hx hb dX1_in_1 rfl (lv_at hl 1 rfl) ?_
  refine lv_icmp_lt (tgt := 14) hx hb dX1_in_2 (by decide) (fun hc2 => ?_) (fun hc2 => ?_)
  · have hs := ww_T hs hc2
    exact hL14 σ _ _ ls hW (lv_sub hl [] rfl) hs
  · have hs := ww_F hs hc2
    refine lv_iload_n hx hb dX1_in_5 rfl (lv_at hl 0 rfl) ?_
    refine lv_iload_n hx hb dX1_in_6 rfl (lv_at hl 2 rfl) ?_
    refine lv_icmp_gt (tgt := 14) hx hb dX1_in_7 (by decide) (fun hc3 => ?_) (fun hc3 => ?_)
    · have hs := ww_T hs hc3
      exact hL14 σ _ _ ls hW (lv_sub hl [] rfl) hs
    · have hs := ww_F hs hc3
      refine lv_iconst (v := 1) hx hb dX1_in_10 (by decide) ?_
      refine lv_goto (tgt := 15) hx hb dX1_in_11 (by decide) ?_
      exact hL15 σ (1 : Int32) _ _ ls hW (lv_sub hl [] rfl) hs
set_option maxHeartbeats 4000000 in
theorem c_X1_wrong (g : wg_T) (hgm : gm g = true) (l : Launch) (L : ly_T) (σ : st_T) (a1 : Int32) (hst : l.stackTraces = false) (o_ : Nat ⊕ Unit) (hs : m_X1_wrong a1 = some o_) : XV g l yX1_wrong (ws_ yX1_wrong cX1_wrong 1 none) 8 140 (xc o_) (xs o_) [.int a1] L σ o_ σ := by
  refine xbody.met (by decide) (Nat.le_of_ble_eq_true rfl) ?_
  intro p e s m args below meth c ls hx hb hr hml hlocks hts hown hnm hout hW hl
  have hown : s.vm.findClass RX1 = some m.cls := hown
  have hl : lv_has ls 1 [(0, .int a1)] := hl
  unfold m_X1_wrong at hs
  refine lv_iload_n hx hb dX1_wrong_0 rfl (lv_at hl 0 rfl) ?_
  refine lv_if_eq (tgt := 12) hx hb dX1_wrong_1 (by decide) (fun hc1 => ?_) (fun hc1 => ?_)
  · have hs := ww_T hs hc1
    have hs := ww_S hs
    exact wx_v hx hb hr hlocks hW hs rfl (Nat.zero_le _) (Nat.zero_le _) dX1_wrong_12
  · have hs := ww_F hs hc1
    have hs := ww_S hs
    exact th_X1_1 hx hb hlocks hown hts hml hl.1 hout hst hW hs rfl dX1_wrong_4 dX1_wrong_7 dX1_wrong_8 dX1_wrong_11 (Nat.le_of_ble_eq_true rfl) (Nat.le_of_ble_eq_true rfl) rfl rfl
set_option maxHeartbeats 4000000 in
theorem c_X1_isHerds (g : wg_T) (hgm : gm g = true) (l : Launch) (L : ly_T) (σ : st_T) (a1 : Int32) (r_ : Int32) (hs : m_X1_isHerds σ a1 = some r_) : CI g l yX1_isHerds (ws_ yX1_isHerds cX1_isHerds 5 (some .boolean)) 5 150 0 0 [.ref (L 1 0), .int a1] L σ r_ σ := by
  refine wbody.met (by decide) (Nat.le_of_ble_eq_true rfl) ?_
  intro p e s m args below meth c ls hx hb hr hml hlocks hts hown hnm hW hl
  have hown : s.vm.findClass RX1 = some m.cls := hown
  have hl : lv_has ls 5 [(0, .ref (L 1 0)), (1, .int a1)] := hl
  unfold m_X1_isHerds at hs
  have hL4 : ∀ (n4 : Nat), ∀ (σ : st_T) (x1 : Int32) (x2 : Int32) (x3 : Int32) (H : Heap) (locs : List Loc) (ls : Array Slot), wv g L σ s H locs → lv_has ls 5 [(0, .ref (L 1 0)), (1, .int x1), (2, .int x2), (3, .int x3)] → (m_X1_isHerds_L4 n4) σ x1 x2 x3 = some r_ → W p l e (wrm 5 150 0 0) s m args below meth c H locs 0 0 (MQ below (wQi g L r_ σ) args s 0 0 (fun q => gz g ≤ q)) (F0 m 4 ls []) := by
    intro n4
    induction n4 with
    | zero => intro σ x1 x2 x3 H locs ls hW hl hs; rw [m_X1_isHerds_L4] at hs; cases hs
    | succ n4 ih4 =>
      have hL39 : ∀ (σ : st_T) (x1 : Int32) (x3 : Int32) (t0 : Int32) (t1 : Int32) (H : Heap) (locs : List Loc) (ls : Array Slot), wv g L σ s H locs → lv_has ls 5 [(0, .ref (L 1 0)), (1, .int x1), (3, .int x3)] → (m_X1_isHerds_L39 (m_X1_isHerds_L4 n4)) σ x1 x3 t0 t1 = some r_ → W p l e (wrm 5 150 0 0) s m args below meth c H locs 0 0 (MQ below (wQi g L r_ σ) args s 0 0 (fun q => gz g ≤ q)) (F0 m 39 ls [.int t1, .int t0]) := by
        have hL44 : ∀ (n44 : Nat), ∀ (σ : st_T) (x1 : Int32) (x2 : Int32) (x3 : Int32) (x4 : Int32) (H : Heap) (locs : List Loc) (ls : Array Slot), wv g L σ s H locs → lv_has ls 5 [(0, .ref (L 1 0)), (1, .int x1), (2, .int x2), (3, .int x3), (4, .int x4)] → (m_X1_isHerds_L44 (m_X1_isHerds_L4 n4) n44) σ x1 x2 x3 x4 = some r_ → W p l e (wrm 5 150 0 0) s m args below meth c H locs 0 0 (MQ below (wQi g L r_ σ) args s 0 0 (fun q => gz g ≤ q)) (F0 m 44 ls []) := by
          intro n44
          induction n44 with
          | zero => intro σ x1 x2 x3 x4 H locs ls hW hl hs; rw [m_X1_isHerds_L44] at hs; cases hs
          | succ n44 ih44 =>
            have hL90 : ∀ (σ : st_T) (x1 : Int32) (x3 : Int32) (x4 : Int32) (t0 : Int32) (t1 : Int32) (H : Heap) (locs : List Loc) (ls : Array Slot), wv g L σ s H locs → lv_has ls 5 [(0, .ref (L 1 0)), (1, .int x1), (3, .int x3), (4, .int x4)] → (m_X1_isHerds_L90 (m_X1_isHerds_L44 (m_X1_isHerds_L4 n4) n44)) σ x1 x3 x4 t0 t1 = some r_ → W p l e (wrm 5 150 0 0) s m args below meth c H locs 0 0 (MQ below (wQi g L r_ σ) args s 0 0 (fun q => gz g ≤ q)) (F0 m 90 ls [.int t1, .int t0]) := by
              intro σ x1 x3 x4 t0 t1 H locs ls hW hl hs
              unfold m_X1_isHerds_L90 at hs
              refine lv_ior hx hb dX1_isHerds_90 ?_
              refine lv_istore_n (lv' := [(2, .int (t0 ||| t1)), (0, .ref (L 1 0)), (1, .int x1), (3, .int x3), (4, .int x4)]) hx hb dX1_isHerds_91 rfl hl (by decide) rfl (fun ls hl => ?_)
              refine lv_iinc (v := (x4 + (1 : Int32))) (lv' := [(4, .int (x4 + (1 : Int32))), (2, .int (t0 ||| t1)), (0, .ref (L 1 0)), (1, .int x1), (3, .int x3)]) hx hb dX1_isHerds_92 hl (k := 4) rfl rfl (by decide) rfl (fun ls hl => ?_)
              refine lv_goto (tgt := 44) hx hb dX1_isHerds_95 (by decide) ?_
              exact ih44 σ x1 (t0 ||| t1) x3 (x4 + (1 : Int32)) _ _ ls hW (lv_sub hl [2, 3, 1, 4, 0] rfl) hs
            intro σ x1 x2 x3 x4 H locs ls hW hl hs
            rw [m_X1_isHerds_L44] at hs
            refine lv_iload hx hb dX1_isHerds_44 (lv_at hl 4 rfl) ?_
            refine lv_aload_n hx hb dX1_isHerds_46 rfl (lv_at hl 0 rfl) ?_
            refine gf_X1_71 hx hb hts hown hW (pr_st (hW.rd hgm) (Nat.le_of_ble_eq_true rfl)) (hW.fl hgm (pr_st (hW.rd hgm) (Nat.le_of_ble_eq_true rfl)) 6 (by decide) rfl (by decide)) dX1_isHerds_47 ?_
            refine lv_iload_n hx hb dX1_isHerds_50 rfl (lv_at hl 3 rfl) ?_
            obtain ⟨hc1, hs⟩ := ww_chk hs
            refine ww_cr (va_runV (As := [.int x3]) (rest := [.int x4]) ⟨hx, hb, hml, hown, hts⟩ (c_AL_get g hgm l L σ 70 0 71 80 x3 rfl rfl rfl (pr_st (hW.rd hgm) (Nat.le_of_ble_eq_true rfl)) hc1) (cwV 1 hts (lw_V q518 q519 q520 q117 q521) rfl rfl rfl hd_J2_get ⟨(Nat.le_of_ble_eq_true rfl), (Nat.le_of_ble_eq_true rfl)⟩) (ww_preV hW (pr_st (hW.rd hgm) (Nat.le_of_ble_eq_true rfl)) (obv_0 rfl) rfl) rfl rfl hl.1 rfl (lv_room (Nat.le_of_ble_eq_true rfl)) dX1_isHerds_51 ⟨Nat.zero_le _, Nat.zero_le _⟩) hW (fun H locs hW => ?_)
            obtain ⟨hc2, hs⟩ := ww_chk hs
            refine ww_castS hx hb hown (hts _ q532) hW (pr_dy hc2 rfl rfl) (obv_0 rfl) rfl dX1_isHerds_54 ?_
            refine gf_X1_203 hx hb hts hown hW (pr_dy hc2 rfl rfl) dX1_isHerds_57 ?_
            refine lv_icmp_ge (tgt := 98) hx hb dX1_isHerds_60 (by decide) (fun hc3 => ?_) (fun hc3 => ?_)
            · have hs := ww_T hs hc3
              refine lv_iinc (v := (x3 + (1 : Int32))) (lv' := [(3, .int (x3 + (1 : Int32))), (0, .ref (L 1 0)), (1, .int x1), (2, .int x2), (4, .int x4)]) hx hb dX1_isHerds_98 hl (k := 3) rfl rfl (by decide) rfl (fun ls hl => ?_)
              refine lv_goto (tgt := 4) hx hb dX1_isHerds_101 (by decide) ?_
              exact ih4 σ x1 x2 (x3 + (1 : Int32)) _ _ ls hW (lv_sub hl [1, 2, 3, 0] rfl) hs
            · have hs := ww_F hs hc3
              refine lv_iload_n hx hb dX1_isHerds_63 rfl (lv_at hl 2 rfl) ?_
              refine lv_aload_n hx hb dX1_isHerds_64 rfl (lv_at hl 0 rfl) ?_
              refine gf_X1_71 hx hb hts hown hW (pr_st (hW.rd hgm) (Nat.le_of_ble_eq_true rfl)) (hW.fl hgm (pr_st (hW.rd hgm) (Nat.le_of_ble_eq_true rfl)) 6 (by decide) rfl (by decide)) dX1_isHerds_65 ?_
              refine lv_iload_n hx hb dX1_isHerds_68 rfl (lv_at hl 3 rfl) ?_
              obtain ⟨hc4, hs⟩ := ww_chk hs
              refine ww_cr (va_runV (As := [.int x3]) (rest := [.int x2]) ⟨hx, hb, hml, hown, hts⟩ (c_AL_get g hgm l L σ 70 0 71 80 x3 rfl rfl rfl (pr_st (hW.rd hgm) (Nat.le_of_ble_eq_true rfl)) hc4) (cwV 1 hts (lw_V q518 q519 q520 q117 q521) rfl rfl rfl hd_J2_get ⟨(Nat.le_of_ble_eq_true rfl), (Nat.le_of_ble_eq_true rfl)⟩) (ww_preV hW (pr_st (hW.rd hgm) (Nat.le_of_ble_eq_true rfl)) (obv_0 rfl) rfl) rfl rfl hl.1 rfl (lv_room (Nat.le_of_ble_eq_true rfl)) dX1_isHerds_69 ⟨Nat.zero_le _, Nat.zero_le _⟩) hW (fun H locs hW => ?_)
              refine ww_castS hx hb hown (hts _ q532) hW (pr_dy hc2 rfl rfl) (obv_0 rfl) rfl dX1_isHerds_72 ?_
              refine gf_X1_206 hx hb hts hown hW (pr_dy hc2 rfl rfl) (hW.fl hgm (pr_dy hc2 rfl rfl) 4 (by decide) rfl (by decide)) dX1_isHerds_75 ?_
              refine lv_iload hx hb dX1_isHerds_78 (lv_at hl 4 rfl) ?_
              obtain ⟨hc5, hs⟩ := ww_chk hs
              obtain ⟨hc6, hs⟩ := ww_chk hs
              refine ww_iald hx hb hW 82 (gP_ σ 71 (2 + x3.toNatClampNeg) 0) (pr_dy hc5 rfl rfl) rfl hc6 dX1_isHerds_80 ?_
              refine lv_iload_n hx hb dX1_isHerds_81 rfl (lv_at hl 1 rfl) ?_
              refine lv_icmp_ne (tgt := 89) hx hb dX1_isHerds_82 (by decide) (fun hc7 => ?_) (fun hc7 => ?_)
              · have hs := ww_F hs hc7
                refine lv_iconst (v := 0) hx hb dX1_isHerds_89 (by decide) ?_
                exact hL90 σ x1 x3 x4 x2 (0 : Int32) _ _ ls hW (lv_sub hl [0, 1, 3, 4] rfl) hs
              · have hs := ww_T hs hc7
                refine lv_iconst (v := 1) hx hb dX1_isHerds_85 (by decide) ?_
                refine lv_goto (tgt := 90) hx hb dX1_isHerds_86 (by decide) ?_
                exact hL90 σ x1 x3 x4 x2 (1 : Int32) _ _ ls hW (lv_sub hl [0, 1, 3, 4] rfl) hs
        intro σ x1 x3 t0 t1 H locs ls hW hl hs
        unfold m_X1_isHerds_L39 at hs
        refine lv_ior hx hb dX1_isHerds_39 ?_
        refine lv_istore_n (lv' := [(2, .int (t0 ||| t1)), (0, .ref (L 1 0)), (1, .int x1), (3, .int x3)]) hx hb dX1_isHerds_40 rfl hl (by decide) rfl (fun ls hl => ?_)
        refine lv_iconst (v := 0) hx hb dX1_isHerds_41 (by decide) ?_
        refine lv_istore (lv' := [(4, .int (0 : Int32)), (2, .int (t0 ||| t1)), (0, .ref (L 1 0)), (1, .int x1), (3, .int x3)]) hx hb dX1_isHerds_42 hl (by decide) rfl (fun ls hl => ?_)
        exact hL44 fu_ σ x1 (t0 ||| t1) x3 (0 : Int32) _ _ ls hW (lv_sub hl [2, 3, 1, 4, 0] rfl) hs
      intro σ x1 x2 x3 H locs ls hW hl hs
      rw [m_X1_isHerds_L4] at hs
      refine lv_iload_n hx hb dX1_isHerds_4 rfl (lv_at hl 3 rfl) ?_
      refine lv_aload_n hx hb dX1_isHerds_5 rfl (lv_at hl 0 rfl) ?_
      refine gf_X1_71 hx hb hts hown hW (pr_st (hW.rd hgm) (Nat.le_of_ble_eq_true rfl)) (hW.fl hgm (pr_st (hW.rd hgm) (Nat.le_of_ble_eq_true rfl)) 6 (by decide) rfl (by decide)) dX1_isHerds_6 ?_
      refine ww_ci (va_runV (As := []) (rest := [.int x3]) ⟨hx, hb, hml, hown, hts⟩ (c_AL_size g hgm l L σ 70 0 71 rfl rfl (pr_st (hW.rd hgm) (Nat.le_of_ble_eq_true rfl))) (cwV 0 hts (lw_V q514 q515 q516 q117 q517) rfl rfl rfl hd_J2_size ⟨(Nat.le_of_ble_eq_true rfl), (Nat.le_of_ble_eq_true rfl)⟩) (ww_preV hW (pr_st (hW.rd hgm) (Nat.le_of_ble_eq_true rfl)) (obv_0 rfl) rfl) rfl rfl hl.1 rfl (lv_room (Nat.le_of_ble_eq_true rfl)) dX1_isHerds_9 ⟨Nat.zero_le _, Nat.zero_le _⟩) hW (fun H locs hW => ?_)
      refine lv_icmp_ge (tgt := 104) hx hb dX1_isHerds_12 (by decide) (fun hc8 => ?_) (fun hc8 => ?_)
      · have hs := ww_T hs hc8
        refine lv_iload_n hx hb dX1_isHerds_104 rfl (lv_at hl 2 rfl) ?_
        obtain ⟨hc9, hs⟩ := ww_chk hs
        have hs := ww_S hs
        exact we_z hx hb hr hlocks hW hc9 hs rfl (Nat.le_of_ble_eq_true rfl) (Nat.le_of_ble_eq_true rfl) dX1_isHerds_105
      · have hs := ww_F hs hc8
        refine lv_iload_n hx hb dX1_isHerds_15 rfl (lv_at hl 2 rfl) ?_
        refine lv_aload_n hx hb dX1_isHerds_16 rfl (lv_at hl 0 rfl) ?_
        refine gf_X1_71 hx hb hts hown hW (pr_st (hW.rd hgm) (Nat.le_of_ble_eq_true rfl)) (hW.fl hgm (pr_st (hW.rd hgm) (Nat.le_of_ble_eq_true rfl)) 6 (by decide) rfl (by decide)) dX1_isHerds_17 ?_
        refine lv_iload_n hx hb dX1_isHerds_20 rfl (lv_at hl 3 rfl) ?_
        obtain ⟨hc10, hs⟩ := ww_chk hs
        refine ww_cr (va_runV (As := [.int x3]) (rest := [.int x2]) ⟨hx, hb, hml, hown, hts⟩ (c_AL_get g hgm l L σ 70 0 71 80 x3 rfl rfl rfl (pr_st (hW.rd hgm) (Nat.le_of_ble_eq_true rfl)) hc10) (cwV 1 hts (lw_V q518 q519 q520 q117 q521) rfl rfl rfl hd_J2_get ⟨(Nat.le_of_ble_eq_true rfl), (Nat.le_of_ble_eq_true rfl)⟩) (ww_preV hW (pr_st (hW.rd hgm) (Nat.le_of_ble_eq_true rfl)) (obv_0 rfl) rfl) rfl rfl hl.1 rfl (lv_room (Nat.le_of_ble_eq_true rfl)) dX1_isHerds_21 ⟨Nat.zero_le _, Nat.zero_le _⟩) hW (fun H locs hW => ?_)
        obtain ⟨hc11, hs⟩ := ww_chk hs
        refine ww_castS hx hb hown (hts _ q532) hW (pr_dy hc11 rfl rfl) (obv_0 rfl) rfl dX1_isHerds_24 ?_
        refine gf_X1_199 hx hb hts hown hW (pr_dy hc11 rfl rfl) dX1_isHerds_27 ?_
        refine lv_iload_n hx hb dX1_isHerds_30 rfl (lv_at hl 1 rfl) ?_
        refine lv_icmp_ne (tgt := 38) hx hb dX1_isHerds_31 (by decide) (fun hc12 => ?_) (fun hc12 => ?_)
        · have hs := ww_F hs hc12
          refine lv_iconst (v := 0) hx hb dX1_isHerds_38 (by decide) ?_
          exact hL39 σ x1 x3 x2 (0 : Int32) _ _ ls hW (lv_sub hl [0, 1, 3] rfl) hs
        · have hs := ww_T hs hc12
          refine lv_iconst (v := 1) hx hb dX1_isHerds_34 (by decide) ?_
          refine lv_goto (tgt := 39) hx hb dX1_isHerds_35 (by decide) ?_
          exact hL39 σ x1 x3 x2 (1 : Int32) _ _ ls hW (lv_sub hl [0, 1, 3] rfl) hs
  refine lv_iconst (v := 0) hx hb dX1_isHerds_0 (by decide) ?_
  refine lv_istore_n (lv' := [(2, .int (0 : Int32)), (0, .ref (L 1 0)), (1, .int a1)]) hx hb dX1_isHerds_1 rfl hl (by decide) rfl (fun ls hl => ?_)
  refine lv_iconst (v := 0) hx hb dX1_isHerds_2 (by decide) ?_
  refine lv_istore_n (lv' := [(3, .int (0 : Int32)), (2, .int (0 : Int32)), (0, .ref (L 1 0)), (1, .int a1)]) hx hb dX1_isHerds_3 rfl hl (by decide) rfl (fun ls hl => ?_)
  exact hL4 fu_ σ a1 (0 : Int32) (0 : Int32) _ _ ls hW (lv_sub hl [2, 3, 1, 0] rfl) hs
set_option maxHeartbeats 4000000 in
theorem c_X1_was (g : wg_T) (hgm : gm g = true) (l : Launch) (L : ly_T) (σ : st_T) (a1 : Int32) (a2 : Int32) (r_ : Int32) (σ_ : st_T) (hs : m_X1_was σ a1 a2 = some (r_, σ_)) : CI g l yX1_was (ws_ yX1_was cX1_was 4 (some .int)) 2 60 0 0 [.ref (L 1 0), .int a1, .int a2] L σ r_ σ_ := by
  refine wbody.met (by decide) (Nat.le_of_ble_eq_true rfl) ?_
  intro p e s m args below meth c ls hx hb hr hml hlocks hts hown hnm hW hl
  have hown : s.vm.findClass RX1 = some m.cls := hown
  have hl : lv_has ls 4 [(0, .ref (L 1 0)), (1, .int a1), (2, .int a2)] := hl
  unfold m_X1_was at hs
  refine lv_aload_n hx hb dX1_was_0 rfl (lv_at hl 0 rfl) ?_
  refine gf_X1_44 hx hb hts hown hW (pr_st (hW.rd hgm) (Nat.le_of_ble_eq_true rfl)) (hW.fl hgm (pr_st (hW.rd hgm) (Nat.le_of_ble_eq_true rfl)) 1 (by decide) rfl (by decide)) dX1_was_1 ?_
  refine gf_X1_183 hx hb hts hown hW (pr_st (hW.rd hgm) (Nat.le_of_ble_eq_true rfl)) (hW.fl hgm (pr_st (hW.rd hgm) (Nat.le_of_ble_eq_true rfl)) 0 (by decide) rfl (by decide)) dX1_was_4 ?_
  refine lv_iload_n hx hb dX1_was_7 rfl (lv_at hl 1 rfl) ?_
  obtain ⟨hc1, hs⟩ := ww_chk hs
  refine ww_iald hx hb hW 51 0 (pr_st (hW.rd hgm) (Nat.le_of_ble_eq_true rfl)) rfl hc1 dX1_was_8 ?_
  refine lv_istore_n (lv' := [(3, .int (gA_ σ 51 0 a1.toNatClampNeg)), (0, .ref (L 1 0)), (1, .int a1), (2, .int a2)]) hx hb dX1_was_9 rfl hl (by decide) rfl (fun ls hl => ?_)
  refine lv_aload_n hx hb dX1_was_10 rfl (lv_at hl 1 rfl) ?_
  refine gf_X1_44 hx hb hts hown hW (pr_st (hW.rd hgm) (Nat.le_of_ble_eq_true rfl)) (hW.fl hgm (pr_st (hW.rd hgm) (Nat.le_of_ble_eq_true rfl)) 1 (by decide) rfl (by decide)) dX1_was_11 ?_
  refine gf_X1_183 hx hb hts hown hW (pr_st (hW.rd hgm) (Nat.le_of_ble_eq_true rfl)) (hW.fl hgm (pr_st (hW.rd hgm) (Nat.le_of_ble_eq_true rfl)) 0 (by decide) rfl (by decide)) dX1_was_14 ?_
  refine lv_iload_n hx hb dX1_was_17 rfl (lv_at hl 2 rfl) ?_
  refine lv_iload_n hx hb dX1_was_18 rfl (lv_at hl 3 rfl) ?_
  obtain ⟨σ2, e3, hs⟩ := ww_let hs
  refine ww_iast hx hb hW 51 0 (pr_st (hW.rd hgm) (Nat.le_of_ble_eq_true rfl)) rfl hc1 dX1_was_19 (fun H locs hW => ?_)
  have hW : wv g L σ2 s H locs := by rw [e3]; exact hW
  refine lv_aload_n hx hb dX1_was_20 rfl (lv_at hl 1 rfl) ?_
  refine gf_X1_44 hx hb hts hown hW (pr_st (hW.rd hgm) (Nat.le_of_ble_eq_true rfl)) (hW.fl hgm (pr_st (hW.rd hgm) (Nat.le_of_ble_eq_true rfl)) 1 (by decide) rfl (by decide)) dX1_was_21 ?_
  refine gf_X1_186 hx hb hts hown hW (pr_st (hW.rd hgm) (Nat.le_of_ble_eq_true rfl)) (hW.fl hgm (pr_st (hW.rd hgm) (Nat.le_of_ble_eq_true rfl)) 3 (by decide) rfl (by decide)) dX1_was_24 ?_
  refine lv_iload_n hx hb dX1_was_27 rfl (lv_at hl 2 rfl) ?_
  refine lv_iconst (v := 0) hx hb dX1_was_28 (by decide) ?_
  obtain ⟨σ4, e5, hs⟩ := ww_let hs
  refine ww_iast hx hb hW 54 0 (pr_st (hW.rd hgm) (Nat.le_of_ble_eq_true rfl)) rfl hc1 dX1_was_29 (fun H locs hW => ?_)
  have hW : wv g L σ4 s H locs := by rw [e5]; exact hW
  refine lv_iload_n hx hb dX1_was_30 rfl (lv_at hl 0 rfl) ?_
  have hs := ww_S hs
  exact we_i hx hb hr hlocks hW (congrArg Prod.fst hs) (congrArg Prod.snd hs) (Nat.le_of_ble_eq_true rfl) (Nat.le_of_ble_eq_true rfl) dX1_was_31
set_option maxHeartbeats 4000000 in
theorem c_X1_family (g : wg_T) (hgm : gm g = true) (l : Launch) (L : ly_T) (σ : st_T) (a1 : Int32) (hst : l.stackTraces = false) (o_ : Nat ⊕ Unit) (hs : m_X1_family a1 = some o_) : XV g l yX1_family (ws_ yX1_family cX1_family 1 none) 9 160 (xc o_) (xs o_) [.int a1] L σ o_ σ := by
  refine xbody.met (by decide) (Nat.le_of_ble_eq_true rfl) ?_
  intro p e s m args below meth c ls hx hb hr hml hlocks hts hown hnm hout hW hl
  have hown : s.vm.findClass RX1 = some m.cls := hown
  have hl : lv_has ls 1 [(0, .int a1)] := hl
  unfold m_X1_family at hs
  have hL15 : ∀ (σ : st_T) (t0 : Int32) (H : Heap) (locs : List Loc) (ls : Array Slot), wv g L σ s H locs → lv_has ls 1 [] → m_X1_family_L15 t0 = some o_ → W p l e (wrm 9 160 (xc o_) (xs o_)) s m args below meth c H locs 0 0 (vx_MQ below (wXv g L o_ σ) (wX g o_ σ L) args s (xc o_) (xs o_) (fun q => gz g ≤ q)) (F0 m 15 ls [.int t0]) := by
    intro σ t0 H locs ls hW hl hs
    unfold m_X1_family_L15 at hs
    obtain ⟨o3, hc1, hs⟩ := ww_bnd hs
    rcases o3 with k4 | v5
    · have hs := ww_sL hs
      have hs := ww_S hs
      subst hs
      exact wx_prop (vx_runS (As := [.int t0]) (rest := []) ⟨hx, hb, hml, hown, hts⟩ (c_X1_wrong g hgm l L σ t0 hst _ hc1) (va_cwS 1 hts (lw_S q848 q849 q111 q850) rfl rfl rfl hd_X1_wrong.2 ⟨(Nat.le_of_ble_eq_true rfl), (Nat.le_of_ble_eq_true rfl)⟩) (ww_preS hW) rfl rfl hl.1 rfl (lv_room (Nat.le_of_ble_eq_true rfl)) dX1_family_15 ⟨Nat.le_of_ble_eq_true rfl, Nat.le_of_ble_eq_true rfl⟩) no_v hW hlocks hout rfl rfl (Nat.le_of_ble_eq_true rfl) (Nat.le_of_ble_eq_true rfl)
    · have hs := ww_sR hs
      refine ww_xv0 (vx_runS (As := [.int t0]) (rest := []) ⟨hx, hb, hml, hown, hts⟩ (c_X1_wrong g hgm l L σ t0 hst _ hc1) (va_cwS 1 hts (lw_S q848 q849 q111 q850) rfl rfl rfl hd_X1_wrong.2 ⟨(Nat.le_of_ble_eq_true rfl), (Nat.le_of_ble_eq_true rfl)⟩) (ww_preS hW) rfl rfl hl.1 rfl (lv_room (Nat.le_of_ble_eq_true rfl)) dX1_family_15 ⟨Nat.zero_le _, Nat.zero_le _⟩) hW (fun H locs hW => ?_)
      have hs := ww_S hs
      exact wx_v hx hb hr hlocks hW hs rfl (Nat.zero_le _) (Nat.zero_le _) dX1_family_18
  refine lv_iload_n hx hb dX1_family_0 rfl (lv_at hl 0 rfl) ?_
  refine lv_iconst (v := 0) hx hb dX1_family_1 (by decide) ?_
  refine lv_bipush (v := 9) hx hb dX1_family_2 (by decide) ?_
  obtain ⟨v8, hc6, hs⟩ := ww_bnd hs
  refine ww_ci (va_runS (As := [.int a1, .int (0 : Int32), .int (9 : Int32)]) (rest := []) ⟨hx, hb, hml, hown, hts⟩ (c_X1_in g hgm l L σ a1 (0 : Int32) (9 : Int32) _ hc6) (va_cwS 3 hts (lw_S q824 q825 q111 q826) rfl rfl rfl hd_X1_in.2 ⟨(Nat.le_of_ble_eq_true rfl), (Nat.le_of_ble_eq_true rfl)⟩) (ww_preS hW) rfl rfl hl.1 rfl (lv_room (Nat.le_of_ble_eq_true rfl)) dX1_family_4 ⟨Nat.le_of_ble_eq_true rfl, Nat.le_of_ble_eq_true rfl⟩) hW (fun H locs hW => ?_)
  refine lv_if_ne (tgt := 14) hx hb dX1_family_7 (by decide) (fun hc9 => ?_) (fun hc9 => ?_)
  · have hs := ww_F hs hc9
    refine lv_iconst (v := 0) hx hb dX1_family_14 (by decide) ?_
    exact hL15 σ (0 : Int32) _ _ ls hW (lv_sub hl [] rfl) hs
  · have hs := ww_T hs hc9
    refine lv_iconst (v := 1) hx hb dX1_family_10 (by decide) ?_
    refine lv_goto (tgt := 15) hx hb dX1_family_11 (by decide) ?_
    exact hL15 σ (1 : Int32) _ _ ls hW (lv_sub hl [] rfl) hs
set_option maxHeartbeats 4000000 in
theorem c_X1_village (g : wg_T) (hgm : gm g = true) (l : Launch) (L : ly_T) (σ : st_T) (a1 : Int32) (a2 : Int32) (hst : l.stackTraces = false) (o_ : Nat ⊕ Int32) (σ_ : st_T) (hs : m_X1_village σ a1 a2 = some (o_, σ_)) : XI g l yX1_village (ws_ yX1_village cX1_village 4 (some .int)) 10 180 (xc o_) (xs o_) [.ref (L 1 0), .int a1, .int a2] L σ o_ σ_ := by
  refine xbody.met (by decide) (Nat.le_of_ble_eq_true rfl) ?_
  intro p e s m args below meth c ls hx hb hr hml hlocks hts hown hnm hout hW hl
  have hown : s.vm.findClass RX1 = some m.cls := hown
  have hl : lv_has ls 4 [(0, .ref (L 1 0)), (1, .int a1), (2, .int a2)] := hl
  unfold m_X1_village at hs
  have hL18 : ∀ (σ : st_T) (x1 : Int32) (x2 : Int32) (t0 : Int32) (H : Heap) (locs : List Loc) (ls : Array Slot), wv g L σ s H locs → lv_has ls 4 [(0, .ref (L 1 0)), (1, .int x1), (2, .int x2)] → m_X1_village_L18 σ x1 x2 t0 = some (o_, σ_) → W p l e (wrm 10 180 (xc o_) (xs o_)) s m args below meth c H locs 0 0 (vx_MQ below (wXi g L o_ σ_) (wX g o_ σ_ L) args s (xc o_) (xs o_) (fun q => gz g ≤ q)) (F0 m 18 ls [.int t0]) := by
    intro σ x1 x2 t0 H locs ls hW hl hs
    unfold m_X1_village_L18 at hs
    obtain ⟨o3, hc1, hs⟩ := ww_bnd hs
    rcases o3 with k4 | v5
    · have hs := ww_sL hs
      have hs := ww_S hs
      have e1 : o_ = .inl k4 := congrArg Prod.fst hs
      have e2 : σ_ = σ := congrArg Prod.snd hs
      subst e1
      exact wx_prop (vx_runS (As := [.int t0]) (rest := []) ⟨hx, hb, hml, hown, hts⟩ (c_X1_wrong g hgm l L σ t0 hst _ hc1) (va_cwS 1 hts (lw_S q848 q849 q111 q850) rfl rfl rfl hd_X1_wrong.2 ⟨(Nat.le_of_ble_eq_true rfl), (Nat.le_of_ble_eq_true rfl)⟩) (ww_preS hW) rfl rfl hl.1 rfl (lv_room (Nat.le_of_ble_eq_true rfl)) dX1_village_18 ⟨Nat.le_of_ble_eq_true rfl, Nat.le_of_ble_eq_true rfl⟩) no_v hW hlocks hout rfl e2 (Nat.le_of_ble_eq_true rfl) (Nat.le_of_ble_eq_true rfl)
    · have hs := ww_sR hs
      refine ww_xv0 (vx_runS (As := [.int t0]) (rest := []) ⟨hx, hb, hml, hown, hts⟩ (c_X1_wrong g hgm l L σ t0 hst _ hc1) (va_cwS 1 hts (lw_S q848 q849 q111 q850) rfl rfl rfl hd_X1_wrong.2 ⟨(Nat.le_of_ble_eq_true rfl), (Nat.le_of_ble_eq_true rfl)⟩) (ww_preS hW) rfl rfl hl.1 rfl (lv_room (Nat.le_of_ble_eq_true rfl)) dX1_village_18 ⟨Nat.zero_le _, Nat.zero_le _⟩) hW (fun H locs hW => ?_)
      refine lv_aload_n hx hb dX1_village_21 rfl (lv_at hl 0 rfl) ?_
      refine gf_X1_84 hx hb hts hown hW (pr_st (hW.rd hgm) (Nat.le_of_ble_eq_true rfl)) (hW.fl hgm (pr_st (hW.rd hgm) (Nat.le_of_ble_eq_true rfl)) 10 (by decide) rfl (by decide)) dX1_village_22 ?_
      refine lv_iload_n hx hb dX1_village_25 rfl (lv_at hl 1 rfl) ?_
      obtain ⟨hc6, hs⟩ := ww_chk hs
      refine ww_iald hx hb hW 20 0 (pr_st (hW.rd hgm) (Nat.le_of_ble_eq_true rfl)) rfl hc6 dX1_village_26 ?_
      refine lv_istore_n (lv' := [(3, .int (gA_ σ 20 0 x1.toNatClampNeg)), (0, .ref (L 1 0)), (1, .int x1), (2, .int x2)]) hx hb dX1_village_27 rfl hl (by decide) rfl (fun ls hl => ?_)
      refine lv_aload_n hx hb dX1_village_28 rfl (lv_at hl 1 rfl) ?_
      refine gf_X1_84 hx hb hts hown hW (pr_st (hW.rd hgm) (Nat.le_of_ble_eq_true rfl)) (hW.fl hgm (pr_st (hW.rd hgm) (Nat.le_of_ble_eq_true rfl)) 10 (by decide) rfl (by decide)) dX1_village_29 ?_
      refine lv_iload_n hx hb dX1_village_32 rfl (lv_at hl 2 rfl) ?_
      refine lv_iload_n hx hb dX1_village_33 rfl (lv_at hl 3 rfl) ?_
      obtain ⟨σ7, e8, hs⟩ := ww_let hs
      refine ww_iast hx hb hW 20 0 (pr_st (hW.rd hgm) (Nat.le_of_ble_eq_true rfl)) rfl hc6 dX1_village_34 (fun H locs hW => ?_)
      have hW : wv g L σ7 s H locs := by rw [e8]; exact hW
      refine lv_iload_n hx hb dX1_village_35 rfl (lv_at hl 0 rfl) ?_
      have hs := ww_S hs
      exact wx_i hx hb hr hlocks hW (congrArg Prod.fst hs) (congrArg Prod.snd hs) (Nat.zero_le _) (Nat.zero_le _) dX1_village_36
  refine lv_iload_n hx hb dX1_village_0 rfl (lv_at hl 1 rfl) ?_
  obtain ⟨o11, hc9, hs⟩ := ww_bnd hs
  rcases o11 with k12 | v13
  · have hs := ww_sL hs
    have hs := ww_S hs
    have e1 : o_ = .inl k12 := congrArg Prod.fst hs
    have e2 : σ_ = σ := congrArg Prod.snd hs
    subst e1
    exact wx_prop (vx_runS (As := [.int a1]) (rest := []) ⟨hx, hb, hml, hown, hts⟩ (c_X1_family g hgm l L σ a1 hst _ hc9) (va_cwS 1 hts (lw_S q896 q897 q111 q898) rfl rfl rfl hd_X1_family.2 ⟨(Nat.le_of_ble_eq_true rfl), (Nat.le_of_ble_eq_true rfl)⟩) (ww_preS hW) rfl rfl hl.1 rfl (lv_room (Nat.le_of_ble_eq_true rfl)) dX1_village_1 ⟨Nat.le_of_ble_eq_true rfl, Nat.le_of_ble_eq_true rfl⟩) no_v hW hlocks hout rfl e2 (Nat.le_of_ble_eq_true rfl) (Nat.le_of_ble_eq_true rfl)
  · have hs := ww_sR hs
    refine ww_xv0 (vx_runS (As := [.int a1]) (rest := []) ⟨hx, hb, hml, hown, hts⟩ (c_X1_family g hgm l L σ a1 hst _ hc9) (va_cwS 1 hts (lw_S q896 q897 q111 q898) rfl rfl rfl hd_X1_family.2 ⟨(Nat.le_of_ble_eq_true rfl), (Nat.le_of_ble_eq_true rfl)⟩) (ww_preS hW) rfl rfl hl.1 rfl (lv_room (Nat.le_of_ble_eq_true rfl)) dX1_village_1 ⟨Nat.zero_le _, Nat.zero_le _⟩) hW (fun H locs hW => ?_)
    refine lv_iload_n hx hb dX1_village_4 rfl (lv_at hl 2 rfl) ?_
    refine lv_iconst (v := 0) hx hb dX1_village_5 (by decide) ?_
    refine lv_iconst (v := 1) hx hb dX1_village_6 (by decide) ?_
    obtain ⟨v16, hc14, hs⟩ := ww_bnd hs
    refine ww_ci (va_runS (As := [.int a2, .int (0 : Int32), .int (1 : Int32)]) (rest := []) ⟨hx, hb, hml, hown, hts⟩ (c_X1_in g hgm l L σ a2 (0 : Int32) (1 : Int32) _ hc14) (va_cwS 3 hts (lw_S q824 q825 q111 q826) rfl rfl rfl hd_X1_in.2 ⟨(Nat.le_of_ble_eq_true rfl), (Nat.le_of_ble_eq_true rfl)⟩) (ww_preS hW) rfl rfl hl.1 rfl (lv_room (Nat.le_of_ble_eq_true rfl)) dX1_village_7 ⟨Nat.le_of_ble_eq_true rfl, Nat.le_of_ble_eq_true rfl⟩) hW (fun H locs hW => ?_)
    refine lv_if_ne (tgt := 17) hx hb dX1_village_10 (by decide) (fun hc17 => ?_) (fun hc17 => ?_)
    · have hs := ww_F hs hc17
      refine lv_iconst (v := 0) hx hb dX1_village_17 (by decide) ?_
      exact hL18 σ a1 a2 (0 : Int32) _ _ ls hW (lv_sub hl [0, 1, 2] rfl) hs
    · have hs := ww_T hs hc17
      refine lv_iconst (v := 1) hx hb dX1_village_13 (by decide) ?_
      refine lv_goto (tgt := 18) hx hb dX1_village_14 (by decide) ?_
      exact hL18 σ a1 a2 (1 : Int32) _ _ ls hW (lv_sub hl [0, 1, 2] rfl) hs
set_option maxHeartbeats 4000000 in
theorem c_X1_isBeside (g : wg_T) (hgm : gm g = true) (l : Launch) (L : ly_T) (σ : st_T) (a1 : Int32) (a2 : Int32) (r_ : Int32) (hs : m_X1_isBeside a1 a2 = some r_) : CI g l yX1_isBeside (ws_ yX1_isBeside cX1_isBeside 4 (some .boolean)) 3 83 0 0 [.int a1, .int a2] L σ r_ σ := by
  refine wbody.met (by decide) (Nat.le_of_ble_eq_true rfl) ?_
  intro p e s m args below meth c ls hx hb hr hml hlocks hts hown hnm hW hl
  have hown : s.vm.findClass RX1 = some m.cls := hown
  have hl : lv_has ls 4 [(0, .int a1), (1, .int a2)] := hl
  unfold m_X1_isBeside at hs
  have hL4 : ∀ (n4 : Nat), ∀ (σ : st_T) (x0 : Int32) (x1 : Int32) (x2 : Int32) (x3 : Int32) (H : Heap) (locs : List Loc) (ls : Array Slot), wv g L σ s H locs → lv_has ls 4 [(0, .int x0), (1, .int x1), (2, .int x2), (3, .int x3)] → (m_X1_isBeside_L4 n4) x0 x1 x2 x3 = some r_ → W p l e (wrm 3 83 0 0) s m args below meth c H locs 0 0 (MQ below (wQi g L r_ σ) args s 0 0 (fun q => gz g ≤ q)) (F0 m 4 ls []) := by
    intro n4
    induction n4 with
    | zero => intro σ x0 x1 x2 x3 H locs ls hW hl hs; rw [m_X1_isBeside_L4] at hs; cases hs
    | succ n4 ih4 =>
      have hL24 : ∀ (σ : st_T) (x0 : Int32) (x1 : Int32) (x3 : Int32) (t0 : Int32) (t1 : Int32) (H : Heap) (locs : List Loc) (ls : Array Slot), wv g L σ s H locs → lv_has ls 4 [(0, .int x0), (1, .int x1), (3, .int x3)] → (m_X1_isBeside_L24 (m_X1_isBeside_L4 n4)) x0 x1 x3 t0 t1 = some r_ → W p l e (wrm 3 83 0 0) s m args below meth c H locs 0 0 (MQ below (wQi g L r_ σ) args s 0 0 (fun q => gz g ≤ q)) (F0 m 24 ls [.int t1, .int t0]) := by
        intro σ x0 x1 x3 t0 t1 H locs ls hW hl hs
        unfold m_X1_isBeside_L24 at hs
        refine lv_ior hx hb dX1_isBeside_24 ?_
        refine lv_istore_n (lv' := [(2, .int (t0 ||| t1)), (0, .int x0), (1, .int x1), (3, .int x3)]) hx hb dX1_isBeside_25 rfl hl (by decide) rfl (fun ls hl => ?_)
        refine lv_iinc (v := (x3 + (1 : Int32))) (lv' := [(3, .int (x3 + (1 : Int32))), (2, .int (t0 ||| t1)), (0, .int x0), (1, .int x1)]) hx hb dX1_isBeside_26 hl (k := 3) rfl rfl (by decide) rfl (fun ls hl => ?_)
        refine lv_goto (tgt := 4) hx hb dX1_isBeside_29 (by decide) ?_
        exact ih4 σ x0 x1 (t0 ||| t1) (x3 + (1 : Int32)) _ _ ls hW (lv_sub hl [2, 3, 1, 0] rfl) hs
      intro σ x0 x1 x2 x3 H locs ls hW hl hs
      rw [m_X1_isBeside_L4] at hs
      refine lv_iload_n hx hb dX1_isBeside_4 rfl (lv_at hl 3 rfl) ?_
      refine lv_iconst (v := 4) hx hb dX1_isBeside_5 (by decide) ?_
      refine lv_icmp_ge (tgt := 32) hx hb dX1_isBeside_6 (by decide) (fun hc1 => ?_) (fun hc1 => ?_)
      · have hs := ww_T hs hc1
        refine lv_iload_n hx hb dX1_isBeside_32 rfl (lv_at hl 2 rfl) ?_
        obtain ⟨hc2, hs⟩ := ww_chk hs
        have hs := ww_S hs
        exact we_z hx hb hr hlocks hW hc2 hs rfl (Nat.le_of_ble_eq_true rfl) (Nat.le_of_ble_eq_true rfl) dX1_isBeside_33
      · have hs := ww_F hs hc1
        refine lv_iload_n hx hb dX1_isBeside_9 rfl (lv_at hl 2 rfl) ?_
        refine lv_iload_n hx hb dX1_isBeside_10 rfl (lv_at hl 0 rfl) ?_
        refine lv_iload_n hx hb dX1_isBeside_11 rfl (lv_at hl 3 rfl) ?_
        obtain ⟨v5, hc3, hs⟩ := ww_bnd hs
        refine ww_ci (va_runS (As := [.int x0, .int x3]) (rest := [.int x2]) ⟨hx, hb, hml, hown, hts⟩ (c_X1_next g hgm l L σ x0 x3 _ hc3) (va_cwS 2 hts (lw_S q926 q508 q111 q509) rfl rfl rfl hd_X1_next.2 ⟨(Nat.le_of_ble_eq_true rfl), (Nat.le_of_ble_eq_true rfl)⟩) (ww_preS hW) rfl rfl hl.1 rfl (lv_room (Nat.le_of_ble_eq_true rfl)) dX1_isBeside_12 ⟨Nat.le_of_ble_eq_true rfl, Nat.le_of_ble_eq_true rfl⟩) hW (fun H locs hW => ?_)
        refine lv_iload_n hx hb dX1_isBeside_15 rfl (lv_at hl 1 rfl) ?_
        refine lv_icmp_ne (tgt := 23) hx hb dX1_isBeside_16 (by decide) (fun hc6 => ?_) (fun hc6 => ?_)
        · have hs := ww_F hs hc6
          refine lv_iconst (v := 0) hx hb dX1_isBeside_23 (by decide) ?_
          exact hL24 σ x0 x1 x3 x2 (0 : Int32) _ _ ls hW (lv_sub hl [0, 1, 3] rfl) hs
        · have hs := ww_T hs hc6
          refine lv_iconst (v := 1) hx hb dX1_isBeside_19 (by decide) ?_
          refine lv_goto (tgt := 24) hx hb dX1_isBeside_20 (by decide) ?_
          exact hL24 σ x0 x1 x3 x2 (1 : Int32) _ _ ls hW (lv_sub hl [0, 1, 3] rfl) hs
  refine lv_iconst (v := 0) hx hb dX1_isBeside_0 (by decide) ?_
  refine lv_istore_n (lv' := [(2, .int (0 : Int32)), (0, .int a1), (1, .int a2)]) hx hb dX1_isBeside_1 rfl hl (by decide) rfl (fun ls hl => ?_)
  refine lv_iconst (v := 0) hx hb dX1_isBeside_2 (by decide) ?_
  refine lv_istore_n (lv' := [(3, .int (0 : Int32)), (2, .int (0 : Int32)), (0, .int a1), (1, .int a2)]) hx hb dX1_isBeside_3 rfl hl (by decide) rfl (fun ls hl => ?_)
  exact hL4 fu_ σ a1 a2 (0 : Int32) (0 : Int32) _ _ ls hW (lv_sub hl [2, 3, 1, 0] rfl) hs
set_option maxHeartbeats 4000000 in
theorem c_X1_cropName (g : wg_T) (hgm : gm g = true) (l : Launch) (L : ly_T) (σ : st_T) (a1 : Int32) (r_ : Nat) (hs : m_X1_cropName a1 = some r_) : CR g l yX1_cropName (ws_ yX1_cropName cX1_cropName 1 (some (.object "java/lang/String"))) 2 60 0 0 [.int a1] L σ (gk g r_) σ := by
  refine wbody.met (by decide) (Nat.le_of_ble_eq_true rfl) ?_
  intro p e s m args below meth c ls hx hb hr hml hlocks hts hown hnm hW hl
  have hown : s.vm.findClass RX1 = some m.cls := hown
  have hl : lv_has ls 1 [(0, .int a1)] := hl
  unfold m_X1_cropName at hs
  refine lv_iload_n hx hb dX1_cropName_0 rfl (lv_at hl 0 rfl) ?_
  by_cases hc1 : a1 = (0 : Int32)
  · have hs := ww_T hs hc1
    refine lv_tableIn (off := 27) (tgt := 28) hx hb dX1_cropName_1 (by rw [hc1]; decide) (by rw [hc1]; decide) (by rw [hc1]; rfl) (by decide) ?_
    refine va_ldcS hx hb hown (hW.1.2.2.2.1 0 (Nat.le_of_ble_eq_true rfl)) dX1_cropName_28 ?_
    have hs := ww_S hs
    exact we_r hx hb hr hlocks hW (congrArg (gk g) hs) rfl (Nat.le_of_ble_eq_true rfl) (Nat.le_of_ble_eq_true rfl) dX1_cropName_30
  · have hs := ww_F hs hc1
    by_cases hc2 : a1 = (1 : Int32)
    · have hs := ww_T hs hc2
      refine lv_tableIn (off := 30) (tgt := 31) hx hb dX1_cropName_1 (by rw [hc2]; decide) (by rw [hc2]; decide) (by rw [hc2]; rfl) (by decide) ?_
      refine va_ldcS hx hb hown (hW.1.2.2.2.1 1 (Nat.le_of_ble_eq_true rfl)) dX1_cropName_31 ?_
      have hs := ww_S hs
      exact we_r hx hb hr hlocks hW (congrArg (gk g) hs) rfl (Nat.le_of_ble_eq_true rfl) (Nat.le_of_ble_eq_true rfl) dX1_cropName_33
    · have hs := ww_F hs hc2
      by_cases hc3 : a1 = (2 : Int32)
      · have hs := ww_T hs hc3
        refine lv_tableIn (off := 33) (tgt := 34) hx hb dX1_cropName_1 (by rw [hc3]; decide) (by rw [hc3]; decide) (by rw [hc3]; rfl) (by decide) ?_
        refine va_ldcS hx hb hown (hW.1.2.2.2.1 2 (Nat.le_of_ble_eq_true rfl)) dX1_cropName_34 ?_
        have hs := ww_S hs
        exact we_r hx hb hr hlocks hW (congrArg (gk g) hs) rfl (Nat.le_of_ble_eq_true rfl) (Nat.le_of_ble_eq_true rfl) dX1_cropName_36
      · have hs := ww_F hs hc3
        refine lv_tableOut (tgt := 37) hx hb dX1_cropName_1 (by have z0 := lv_neT (k := (0 : Int32)) (a := 0) hc1 rfl; have z1 := lv_neT (k := (1 : Int32)) (a := 1) hc2 rfl; have z2 := lv_neT (k := (2 : Int32)) (a := 2) hc3 rfl; omega) (by decide) ?_
        refine va_ldcS hx hb hown (hW.1.2.2.2.1 3 (Nat.le_of_ble_eq_true rfl)) dX1_cropName_37 ?_
        have hs := ww_S hs
        exact we_r hx hb hr hlocks hW (congrArg (gk g) hs) rfl (Nat.le_of_ble_eq_true rfl) (Nat.le_of_ble_eq_true rfl) dX1_cropName_39
set_option maxHeartbeats 4000000 in
theorem c_X1_isDigit (g : wg_T) (hgm : gm g = true) (l : Launch) (L : ly_T) (σ : st_T) (a1 : Int32) (r_ : Int32) (hs : m_X1_isDigit a1 = some r_) : CI g l yX1_isDigit (ws_ yX1_isDigit cX1_isDigit 1 (some .boolean)) 2 60 0 0 [.int a1] L σ r_ σ := by
  refine wbody.met (by decide) (Nat.le_of_ble_eq_true rfl) ?_
  intro p e s m args below meth c ls hx hb hr hml hlocks hts hown hnm hW hl
  have hown : s.vm.findClass RX1 = some m.cls := hown
  have hl : lv_has ls 1 [(0, .int a1)] := hl
  unfold m_X1_isDigit at hs
  have hL17 : ∀ (σ : st_T) (t0 : Int32) (H : Heap) (locs : List Loc) (ls : Array Slot), wv g L σ s H locs → lv_has ls 1 [] → m_X1_isDigit_L17 t0 = some r_ → W p l e (wrm 2 60 0 0) s m args below meth c H locs 0 0 (MQ below (wQi g L r_ σ) args s 0 0 (fun q => gz g ≤ q)) (F0 m 17 ls [.int t0]) := by
    intro σ t0 H locs ls hW hl hs
    unfold m_X1_isDigit_L17 at hs
    obtain ⟨hc1, hs⟩ := ww_chk hs
    have hs := ww_S hs
    exact we_z hx hb hr hlocks hW hc1 hs rfl (Nat.le_of_ble_eq_true rfl) (Nat.le_of_ble_eq_true rfl) dX1_isDigit_17
  have hL16 : ∀ (σ : st_T)  (H : Heap) (locs : List Loc) (ls : Array Slot), wv g L σ s H locs → lv_has ls 1 [] → (m_X1_isDigit_L16 m_X1_isDigit_L17) = some r_ → W p l e (wrm 2 60 0 0) s m args below meth c H locs 0 0 (MQ below (wQi g L r_ σ) args s 0 0 (fun q => gz g ≤ q)) (F0 m 16 ls []) := by
    intro σ H locs ls hW hl hs
    unfold m_X1_isDigit_L16 at hs
    refine lv_iconst (v := 0) hx hb dX1_isDigit_16 (by decide) ?_
    exact hL17 σ (0 : Int32) _ _ ls hW (lv_sub hl [] rfl) hs
  refine lv_iload_n hx hb dX1_isDigit_0 rfl (lv_at hl 0 rfl) ?_
  refine lv_bipush (v := 48) hx hb dX1_isDigit_1 (by decide) ?_
  refine lv_icmp_lt (tgt := 16) hx hb dX1_isDigit_3 (by decide) (fun hc2 => ?_) (fun hc2 => ?_)
  · have hs := ww_T hs hc2
    exact hL16 σ _ _ ls hW (lv_sub hl [] rfl) hs
  · have hs := ww_F hs hc2
    refine lv_iload_n hx hb dX1_isDigit_6 rfl (lv_at hl 0 rfl) ?_
    refine lv_bipush (v := 57) hx hb dX1_isDigit_7 (by decide) ?_
    refine lv_icmp_gt (tgt := 16) hx hb dX1_isDigit_9 (by decide) (fun hc3 => ?_) (fun hc3 => ?_)
    · have hs := ww_T hs hc3
      exact hL16 σ _ _ ls hW (lv_sub hl [] rfl) hs
    · have hs := ww_F hs hc3
      refine lv_iconst (v := 1) hx hb dX1_isDigit_12 (by decide) ?_
      refine lv_goto (tgt := 17) hx hb dX1_isDigit_13 (by decide) ?_
      exact hL17 σ (1 : Int32) _ _ ls hW (lv_sub hl [] rfl) hs
set_option maxHeartbeats 4000000 in
theorem c_X1_toldName (g : wg_T) (hgm : gm g = true) (l : Launch) (L : ly_T) (σ : st_T) (a1 : Int32) (r_ : Nat) (hs : m_X1_toldName a1 = some r_) : CR g l yX1_toldName (ws_ yX1_toldName cX1_toldName 1 (some (.object "java/lang/String"))) 2 60 0 0 [.int a1] L σ (gk g r_) σ := by
  refine wbody.met (by decide) (Nat.le_of_ble_eq_true rfl) ?_
  intro p e s m args below meth c ls hx hb hr hml hlocks hts hown hnm hW hl
  have hown : s.vm.findClass RX1 = some m.cls := hown
  have hl : lv_has ls 1 [(0, .int a1)] := hl
  unfold m_X1_toldName at hs
  refine lv_iload_n hx hb dX1_toldName_0 rfl (lv_at hl 0 rfl) ?_
  by_cases hc1 : a1 = (0 : Int32)
  · have hs := ww_T hs hc1
    refine lv_tableIn (off := 31) (tgt := 32) hx hb dX1_toldName_1 (by rw [hc1]; decide) (by rw [hc1]; decide) (by rw [hc1]; rfl) (by decide) ?_
    refine va_ldcS hx hb hown (hW.1.2.2.2.1 4 (Nat.le_of_ble_eq_true rfl)) dX1_toldName_32 ?_
    have hs := ww_S hs
    exact we_r hx hb hr hlocks hW (congrArg (gk g) hs) rfl (Nat.le_of_ble_eq_true rfl) (Nat.le_of_ble_eq_true rfl) dX1_toldName_34
  · have hs := ww_F hs hc1
    by_cases hc2 : a1 = (1 : Int32)
    · have hs := ww_T hs hc2
      refine lv_tableIn (off := 34) (tgt := 35) hx hb dX1_toldName_1 (by rw [hc2]; decide) (by rw [hc2]; decide) (by rw [hc2]; rfl) (by decide) ?_
      refine va_ldcS hx hb hown (hW.1.2.2.2.1 5 (Nat.le_of_ble_eq_true rfl)) dX1_toldName_35 ?_
      have hs := ww_S hs
      exact we_r hx hb hr hlocks hW (congrArg (gk g) hs) rfl (Nat.le_of_ble_eq_true rfl) (Nat.le_of_ble_eq_true rfl) dX1_toldName_37
    · have hs := ww_F hs hc2
      by_cases hc3 : a1 = (2 : Int32)
      · have hs := ww_T hs hc3
        refine lv_tableIn (off := 37) (tgt := 38) hx hb dX1_toldName_1 (by rw [hc3]; decide) (by rw [hc3]; decide) (by rw [hc3]; rfl) (by decide) ?_
        refine va_ldcS hx hb hown (hW.1.2.2.2.1 6 (Nat.le_of_ble_eq_true rfl)) dX1_toldName_38 ?_
        have hs := ww_S hs
        exact we_r hx hb hr hlocks hW (congrArg (gk g) hs) rfl (Nat.le_of_ble_eq_true rfl) (Nat.le_of_ble_eq_true rfl) dX1_toldName_40
      · have hs := ww_F hs hc3
        by_cases hc4 : a1 = (3 : Int32)
        · have hs := ww_T hs hc4
          refine lv_tableIn (off := 40) (tgt := 41) hx hb dX1_toldName_1 (by rw [hc4]; decide) (by rw [hc4]; decide) (by rw [hc4]; rfl) (by decide) ?_
          refine va_ldcS hx hb hown (hW.1.2.2.2.1 7 (Nat.le_of_ble_eq_true rfl)) dX1_toldName_41 ?_
          have hs := ww_S hs
          exact we_r hx hb hr hlocks hW (congrArg (gk g) hs) rfl (Nat.le_of_ble_eq_true rfl) (Nat.le_of_ble_eq_true rfl) dX1_toldName_43
        · have hs := ww_F hs hc4
          refine lv_tableOut (tgt := 44) hx hb dX1_toldName_1 (by have z0 := lv_neT (k := (0 : Int32)) (a := 0) hc1 rfl; have z1 := lv_neT (k := (1 : Int32)) (a := 1) hc2 rfl; have z2 := lv_neT (k := (2 : Int32)) (a := 2) hc3 rfl; have z3 := lv_neT (k := (3 : Int32)) (a := 3) hc4 rfl; omega) (by decide) ?_
          refine va_ldcS hx hb hown (hW.1.2.2.2.1 8 (Nat.le_of_ble_eq_true rfl)) dX1_toldName_44 ?_
          have hs := ww_S hs
          exact we_r hx hb hr hlocks hW (congrArg (gk g) hs) rfl (Nat.le_of_ble_eq_true rfl) (Nat.le_of_ble_eq_true rfl) dX1_toldName_46
set_option maxHeartbeats 4000000 in
theorem c_X1_herdAt (g : wg_T) (hgm : gm g = true) (l : Launch) (L : ly_T) (σ : st_T) (a1 : Int32) (hst : l.stackTraces = false) (o_ : Nat ⊕ Nat) (hs : m_X1_herdAt σ a1 = some o_) : XR g l yX1_herdAt (ws_ yX1_herdAt cX1_herdAt 2 (some (.object "ElephantEdge$Herd"))) 8 150 (xc o_) (xs o_) [.ref (L 1 0), .int a1] L σ 80 o_ σ := by
  refine xbody.met (by decide) (Nat.le_of_ble_eq_true rfl) ?_
  intro p e s m args below meth c ls hx hb hr hml hlocks hts hown hnm hout hW hl
  have hown : s.vm.findClass RX1 = some m.cls := hown
  have hl : lv_has ls 2 [(0, .ref (L 1 0)), (1, .int a1)] := hl
  unfold m_X1_herdAt at hs
  refine lv_iload_n hx hb dX1_herdAt_0 rfl (lv_at hl 1 rfl) ?_
  refine lv_iconst (v := 0) hx hb dX1_herdAt_1 (by decide) ?_
  refine lv_aload_n hx hb dX1_herdAt_2 rfl (lv_at hl 0 rfl) ?_
  refine gf_X1_71 hx hb hts hown hW (pr_st (hW.rd hgm) (Nat.le_of_ble_eq_true rfl)) (hW.fl hgm (pr_st (hW.rd hgm) (Nat.le_of_ble_eq_true rfl)) 6 (by decide) rfl (by decide)) dX1_herdAt_3 ?_
  refine ww_ci (va_runV (As := []) (rest := [.int (0 : Int32), .int a1]) ⟨hx, hb, hml, hown, hts⟩ (c_AL_size g hgm l L σ 70 0 71 rfl rfl (pr_st (hW.rd hgm) (Nat.le_of_ble_eq_true rfl))) (cwV 0 hts (lw_V q514 q515 q516 q117 q517) rfl rfl rfl hd_J2_size ⟨(Nat.le_of_ble_eq_true rfl), (Nat.le_of_ble_eq_true rfl)⟩) (ww_preV hW (pr_st (hW.rd hgm) (Nat.le_of_ble_eq_true rfl)) (obv_0 rfl) rfl) rfl rfl hl.1 rfl (lv_room (Nat.le_of_ble_eq_true rfl)) dX1_herdAt_6 ⟨Nat.zero_le _, Nat.zero_le _⟩) hW (fun H locs hW => ?_)
  refine lv_iconst (v := 1) hx hb dX1_herdAt_9 (by decide) ?_
  refine lv_isub hx hb dX1_herdAt_10 ?_
  obtain ⟨v3, hc1, hs⟩ := ww_bnd hs
  refine ww_ci (va_runS (As := [.int a1, .int (0 : Int32), .int ((gF_ σ 70 2 0) - (1 : Int32))]) (rest := []) ⟨hx, hb, hml, hown, hts⟩ (c_X1_in g hgm l L σ a1 (0 : Int32) ((gF_ σ 70 2 0) - (1 : Int32)) _ hc1) (va_cwS 3 hts (lw_S q824 q825 q111 q826) rfl rfl rfl hd_X1_in.2 ⟨(Nat.le_of_ble_eq_true rfl), (Nat.le_of_ble_eq_true rfl)⟩) (ww_preS hW) rfl rfl hl.1 rfl (lv_room (Nat.le_of_ble_eq_true rfl)) dX1_herdAt_11 ⟨Nat.le_of_ble_eq_true rfl, Nat.le_of_ble_eq_true rfl⟩) hW (fun H locs hW => ?_)
  refine lv_if_ne (tgt := 25) hx hb dX1_herdAt_14 (by decide) (fun hc4 => ?_) (fun hc4 => ?_)
  · have hs := ww_F hs hc4
    refine lv_aload_n hx hb dX1_herdAt_25 rfl (lv_at hl 0 rfl) ?_
    refine gf_X1_71 hx hb hts hown hW (pr_st (hW.rd hgm) (Nat.le_of_ble_eq_true rfl)) (hW.fl hgm (pr_st (hW.rd hgm) (Nat.le_of_ble_eq_true rfl)) 6 (by decide) rfl (by decide)) dX1_herdAt_26 ?_
    refine lv_iload_n hx hb dX1_herdAt_29 rfl (lv_at hl 1 rfl) ?_
    obtain ⟨hc5, hs⟩ := ww_chk hs
    refine ww_cr (va_runV (As := [.int a1]) (rest := []) ⟨hx, hb, hml, hown, hts⟩ (c_AL_get g hgm l L σ 70 0 71 80 a1 rfl rfl rfl (pr_st (hW.rd hgm) (Nat.le_of_ble_eq_true rfl)) hc5) (cwV 1 hts (lw_V q518 q519 q520 q117 q521) rfl rfl rfl hd_J2_get ⟨(Nat.le_of_ble_eq_true rfl), (Nat.le_of_ble_eq_true rfl)⟩) (ww_preV hW (pr_st (hW.rd hgm) (Nat.le_of_ble_eq_true rfl)) (obv_0 rfl) rfl) rfl rfl hl.1 rfl (lv_room (Nat.le_of_ble_eq_true rfl)) dX1_herdAt_30 ⟨Nat.zero_le _, Nat.zero_le _⟩) hW (fun H locs hW => ?_)
    obtain ⟨hc6, hs⟩ := ww_chk hs
    refine ww_castS hx hb hown (hts _ q532) hW (pr_dy hc6 rfl rfl) (obv_0 rfl) rfl dX1_herdAt_33 ?_
    have hs := ww_S hs
    exact wx_r hx hb hr hlocks hW hs rfl (Nat.zero_le _) (Nat.zero_le _) dX1_herdAt_36
  · have hs := ww_T hs hc4
    have hs := ww_S hs
    exact th_X1_3 hx hb hlocks hown hts hml hl.1 hout hst hW hs rfl dX1_herdAt_17 dX1_herdAt_20 dX1_herdAt_21 dX1_herdAt_24 (Nat.le_of_ble_eq_true rfl) (Nat.le_of_ble_eq_true rfl) rfl rfl
set_option maxHeartbeats 4000000 in
theorem c_X1_some (g : wg_T) (hgm : gm g = true) (l : Launch) (L : ly_T) (σ : st_T) (a1 : Int32) (hst : l.stackTraces = false) (o_ : Nat ⊕ Unit) (hs : m_X1_some a1 = some o_) : XV g l yX1_some (ws_ yX1_some cX1_some 1 none) 9 160 (xc o_) (xs o_) [.int a1] L σ o_ σ := by
  refine xbody.met (by decide) (Nat.le_of_ble_eq_true rfl) ?_
  intro p e s m args below meth c ls hx hb hr hml hlocks hts hown hnm hout hW hl
  have hown : s.vm.findClass RX1 = some m.cls := hown
  have hl : lv_has ls 1 [(0, .int a1)] := hl
  unfold m_X1_some at hs
  have hL14 : ∀ (σ : st_T) (t0 : Int32) (H : Heap) (locs : List Loc) (ls : Array Slot), wv g L σ s H locs → lv_has ls 1 [] → m_X1_some_L14 t0 = some o_ → W p l e (wrm 9 160 (xc o_) (xs o_)) s m args below meth c H locs 0 0 (vx_MQ below (wXv g L o_ σ) (wX g o_ σ L) args s (xc o_) (xs o_) (fun q => gz g ≤ q)) (F0 m 14 ls [.int t0]) := by
    intro σ t0 H locs ls hW hl hs
    unfold m_X1_some_L14 at hs
    obtain ⟨o3, hc1, hs⟩ := ww_bnd hs
    rcases o3 with k4 | v5
    · have hs := ww_sL hs
      have hs := ww_S hs
      subst hs
      exact wx_prop (vx_runS (As := [.int t0]) (rest := []) ⟨hx, hb, hml, hown, hts⟩ (c_X1_wrong g hgm l L σ t0 hst _ hc1) (va_cwS 1 hts (lw_S q848 q849 q111 q850) rfl rfl rfl hd_X1_wrong.2 ⟨(Nat.le_of_ble_eq_true rfl), (Nat.le_of_ble_eq_true rfl)⟩) (ww_preS hW) rfl rfl hl.1 rfl (lv_room (Nat.le_of_ble_eq_true rfl)) dX1_some_14 ⟨Nat.le_of_ble_eq_true rfl, Nat.le_of_ble_eq_true rfl⟩) no_v hW hlocks hout rfl rfl (Nat.le_of_ble_eq_true rfl) (Nat.le_of_ble_eq_true rfl)
    · have hs := ww_sR hs
      refine ww_xv0 (vx_runS (As := [.int t0]) (rest := []) ⟨hx, hb, hml, hown, hts⟩ (c_X1_wrong g hgm l L σ t0 hst _ hc1) (va_cwS 1 hts (lw_S q848 q849 q111 q850) rfl rfl rfl hd_X1_wrong.2 ⟨(Nat.le_of_ble_eq_true rfl), (Nat.le_of_ble_eq_true rfl)⟩) (ww_preS hW) rfl rfl hl.1 rfl (lv_room (Nat.le_of_ble_eq_true rfl)) dX1_some_14 ⟨Nat.zero_le _, Nat.zero_le _⟩) hW (fun H locs hW => ?_)
      have hs := ww_S hs
      exact wx_v hx hb hr hlocks hW hs rfl (Nat.zero_le _) (Nat.zero_le _) dX1_some_17
  refine lv_iload_n hx hb dX1_some_0 rfl (lv_at hl 0 rfl) ?_
  refine lv_iconst (v := 1) hx hb dX1_some_1 (by decide) ?_
  refine lv_iconst (v := 5) hx hb dX1_some_2 (by decide) ?_
  obtain ⟨v8, hc6, hs⟩ := ww_bnd hs
  refine ww_ci (va_runS (As := [.int a1, .int (1 : Int32), .int (5 : Int32)]) (rest := []) ⟨hx, hb, hml, hown, hts⟩ (c_X1_in g hgm l L σ a1 (1 : Int32) (5 : Int32) _ hc6) (va_cwS 3 hts (lw_S q824 q825 q111 q826) rfl rfl rfl hd_X1_in.2 ⟨(Nat.le_of_ble_eq_true rfl), (Nat.le_of_ble_eq_true rfl)⟩) (ww_preS hW) rfl rfl hl.1 rfl (lv_room (Nat.le_of_ble_eq_true rfl)) dX1_some_3 ⟨Nat.le_of_ble_eq_true rfl, Nat.le_of_ble_eq_true rfl⟩) hW (fun H locs hW => ?_)
  refine lv_if_ne (tgt := 13) hx hb dX1_some_6 (by decide) (fun hc9 => ?_) (fun hc9 => ?_)
  · have hs := ww_F hs hc9
    refine lv_iconst (v := 0) hx hb dX1_some_13 (by decide) ?_
    exact hL14 σ (0 : Int32) _ _ ls hW (lv_sub hl [] rfl) hs
  · have hs := ww_T hs hc9
    refine lv_iconst (v := 1) hx hb dX1_some_9 (by decide) ?_
    refine lv_goto (tgt := 14) hx hb dX1_some_10 (by decide) ?_
    exact hL14 σ (1 : Int32) _ _ ls hW (lv_sub hl [] rfl) hs
set_option maxHeartbeats 4000000 in
theorem c_X1_debt (g : wg_T) (hgm : gm g = true) (l : Launch) (L : ly_T) (σ : st_T) (a1 : Int32) (hst : l.stackTraces = false) (o_ : Nat ⊕ Int32) (hs : m_X1_debt σ a1 = some o_) : XI g l yX1_debt (ws_ yX1_debt cX1_debt 2 (some .int)) 9 160 (xc o_) (xs o_) [.ref (L 1 0), .int a1] L σ o_ σ := by
  refine xbody.met (by decide) (Nat.le_of_ble_eq_true rfl) ?_
  intro p e s m args below meth c ls hx hb hr hml hlocks hts hown hnm hout hW hl
  have hown : s.vm.findClass RX1 = some m.cls := hown
  have hl : lv_has ls 2 [(0, .ref (L 1 0)), (1, .int a1)] := hl
  unfold m_X1_debt at hs
  have hL14 : ∀ (σ : st_T) (x1 : Int32) (t0 : Int32) (H : Heap) (locs : List Loc) (ls : Array Slot), wv g L σ s H locs → lv_has ls 2 [(0, .ref (L 1 0)), (1, .int x1)] → m_X1_debt_L14 σ x1 t0 = some o_ → W p l e (wrm 9 160 (xc o_) (xs o_)) s m args below meth c H locs 0 0 (vx_MQ below (wXi g L o_ σ) (wX g o_ σ L) args s (xc o_) (xs o_) (fun q => gz g ≤ q)) (F0 m 14 ls [.int t0]) := by
    intro σ x1 t0 H locs ls hW hl hs
    unfold m_X1_debt_L14 at hs
    obtain ⟨o3, hc1, hs⟩ := ww_bnd hs
    rcases o3 with k4 | v5
    · have hs := ww_sL hs
      have hs := ww_S hs
      subst hs
      exact wx_prop (vx_runS (As := [.int t0]) (rest := []) ⟨hx, hb, hml, hown, hts⟩ (c_X1_wrong g hgm l L σ t0 hst _ hc1) (va_cwS 1 hts (lw_S q848 q849 q111 q850) rfl rfl rfl hd_X1_wrong.2 ⟨(Nat.le_of_ble_eq_true rfl), (Nat.le_of_ble_eq_true rfl)⟩) (ww_preS hW) rfl rfl hl.1 rfl (lv_room (Nat.le_of_ble_eq_true rfl)) dX1_debt_14 ⟨Nat.le_of_ble_eq_true rfl, Nat.le_of_ble_eq_true rfl⟩) no_v hW hlocks hout rfl rfl (Nat.le_of_ble_eq_true rfl) (Nat.le_of_ble_eq_true rfl)
    · have hs := ww_sR hs
      refine ww_xv0 (vx_runS (As := [.int t0]) (rest := []) ⟨hx, hb, hml, hown, hts⟩ (c_X1_wrong g hgm l L σ t0 hst _ hc1) (va_cwS 1 hts (lw_S q848 q849 q111 q850) rfl rfl rfl hd_X1_wrong.2 ⟨(Nat.le_of_ble_eq_true rfl), (Nat.le_of_ble_eq_true rfl)⟩) (ww_preS hW) rfl rfl hl.1 rfl (lv_room (Nat.le_of_ble_eq_true rfl)) dX1_debt_14 ⟨Nat.zero_le _, Nat.zero_le _⟩) hW (fun H locs hW => ?_)
      refine lv_aload_n hx hb dX1_debt_17 rfl (lv_at hl 0 rfl) ?_
      refine gf_X1_100 hx hb hts hown hW (pr_st (hW.rd hgm) (Nat.le_of_ble_eq_true rfl)) (hW.fl hgm (pr_st (hW.rd hgm) (Nat.le_of_ble_eq_true rfl)) 15 (by decide) rfl (by decide)) dX1_debt_18 ?_
      refine lv_iload_n hx hb dX1_debt_21 rfl (lv_at hl 1 rfl) ?_
      obtain ⟨hc6, hs⟩ := ww_chk hs
      refine ww_iald hx hb hW 25 0 (pr_st (hW.rd hgm) (Nat.le_of_ble_eq_true rfl)) rfl hc6 dX1_debt_22 ?_
      have hs := ww_S hs
      exact wx_i hx hb hr hlocks hW hs rfl (Nat.zero_le _) (Nat.zero_le _) dX1_debt_23
  refine lv_iload_n hx hb dX1_debt_0 rfl (lv_at hl 1 rfl) ?_
  refine lv_iconst (v := 0) hx hb dX1_debt_1 (by decide) ?_
  refine lv_iconst (v := 1) hx hb dX1_debt_2 (by decide) ?_
  obtain ⟨v9, hc7, hs⟩ := ww_bnd hs
  refine ww_ci (va_runS (As := [.int a1, .int (0 : Int32), .int (1 : Int32)]) (rest := []) ⟨hx, hb, hml, hown, hts⟩ (c_X1_in g hgm l L σ a1 (0 : Int32) (1 : Int32) _ hc7) (va_cwS 3 hts (lw_S q824 q825 q111 q826) rfl rfl rfl hd_X1_in.2 ⟨(Nat.le_of_ble_eq_true rfl), (Nat.le_of_ble_eq_true rfl)⟩) (ww_preS hW) rfl rfl hl.1 rfl (lv_room (Nat.le_of_ble_eq_true rfl)) dX1_debt_3 ⟨Nat.le_of_ble_eq_true rfl, Nat.le_of_ble_eq_true rfl⟩) hW (fun H locs hW => ?_)
  refine lv_if_ne (tgt := 13) hx hb dX1_debt_6 (by decide) (fun hc10 => ?_) (fun hc10 => ?_)
  · have hs := ww_F hs hc10
    refine lv_iconst (v := 0) hx hb dX1_debt_13 (by decide) ?_
    exact hL14 σ a1 (0 : Int32) _ _ ls hW (lv_sub hl [0, 1] rfl) hs
  · have hs := ww_T hs hc10
    refine lv_iconst (v := 1) hx hb dX1_debt_9 (by decide) ?_
    refine lv_goto (tgt := 14) hx hb dX1_debt_10 (by decide) ?_
    exact hL14 σ a1 (1 : Int32) _ _ ls hW (lv_sub hl [0, 1] rfl) hs
set_option maxHeartbeats 4000000 in
theorem c_X1_watched (g : wg_T) (hgm : gm g = true) (l : Launch) (L : ly_T) (σ : st_T) (a1 : Int32) (hst : l.stackTraces = false) (o_ : Nat ⊕ Int32) (hs : m_X1_watched σ a1 = some o_) : XI g l yX1_watched (ws_ yX1_watched cX1_watched 2 (some .int)) 10 180 (xc o_) (xs o_) [.ref (L 1 0), .int a1] L σ o_ σ := by
  refine xbody.met (by decide) (Nat.le_of_ble_eq_true rfl) ?_
  intro p e s m args below meth c ls hx hb hr hml hlocks hts hown hnm hout hW hl
  have hown : s.vm.findClass RX1 = some m.cls := hown
  have hl : lv_has ls 2 [(0, .ref (L 1 0)), (1, .int a1)] := hl
  unfold m_X1_watched at hs
  refine lv_iload_n hx hb dX1_watched_0 rfl (lv_at hl 1 rfl) ?_
  obtain ⟨o3, hc1, hs⟩ := ww_bnd hs
  rcases o3 with k4 | v5
  · have hs := ww_sL hs
    have hs := ww_S hs
    subst hs
    exact wx_prop (vx_runS (As := [.int a1]) (rest := []) ⟨hx, hb, hml, hown, hts⟩ (c_X1_family g hgm l L σ a1 hst _ hc1) (va_cwS 1 hts (lw_S q896 q897 q111 q898) rfl rfl rfl hd_X1_family.2 ⟨(Nat.le_of_ble_eq_true rfl), (Nat.le_of_ble_eq_true rfl)⟩) (ww_preS hW) rfl rfl hl.1 rfl (lv_room (Nat.le_of_ble_eq_true rfl)) dX1_watched_1 ⟨Nat.le_of_ble_eq_true rfl, Nat.le_of_ble_eq_true rfl⟩) no_v hW hlocks hout rfl rfl (Nat.le_of_ble_eq_true rfl) (Nat.le_of_ble_eq_true rfl)
  · have hs := ww_sR hs
    refine ww_xv0 (vx_runS (As := [.int a1]) (rest := []) ⟨hx, hb, hml, hown, hts⟩ (c_X1_family g hgm l L σ a1 hst _ hc1) (va_cwS 1 hts (lw_S q896 q897 q111 q898) rfl rfl rfl hd_X1_family.2 ⟨(Nat.le_of_ble_eq_true rfl), (Nat.le_of_ble_eq_true rfl)⟩) (ww_preS hW) rfl rfl hl.1 rfl (lv_room (Nat.le_of_ble_eq_true rfl)) dX1_watched_1 ⟨Nat.zero_le _, Nat.zero_le _⟩) hW (fun H locs hW => ?_)
    refine lv_aload_n hx hb dX1_watched_4 rfl (lv_at hl 0 rfl) ?_
    refine gf_X1_94 hx hb hts hown hW (pr_st (hW.rd hgm) (Nat.le_of_ble_eq_true rfl)) (hW.fl hgm (pr_st (hW.rd hgm) (Nat.le_of_ble_eq_true rfl)) 13 (by decide) rfl (by decide)) dX1_watched_5 ?_
    refine lv_iload_n hx hb dX1_watched_8 rfl (lv_at hl 1 rfl) ?_
    obtain ⟨hc6, hs⟩ := ww_chk hs
    refine ww_iald hx hb hW 23 0 (pr_st (hW.rd hgm) (Nat.le_of_ble_eq_true rfl)) rfl hc6 dX1_watched_9 ?_
    have hs := ww_S hs
    exact wx_i hx hb hr hlocks hW hs rfl (Nat.zero_le _) (Nat.zero_le _) dX1_watched_10
set_option maxHeartbeats 4000000 in
theorem c_X1_join (g : wg_T) (hgm : gm g = true) (l : Launch) (L : ly_T) (σ : st_T) (a1 : Int32) (a2 : Int32) (hst : l.stackTraces = false) (o_ : Nat ⊕ Int32) (σ_ : st_T) (hs : m_X1_join σ a1 a2 = some (o_, σ_)) : XI g l yX1_join (ws_ yX1_join cX1_join 3 (some .int)) 10 180 (xc o_) (xs o_) [.ref (L 1 0), .int a1, .int a2] L σ o_ σ_ := by
  refine xbody.met (by decide) (Nat.le_of_ble_eq_true rfl) ?_
  intro p e s m args below meth c ls hx hb hr hml hlocks hts hown hnm hout hW hl
  have hown : s.vm.findClass RX1 = some m.cls := hown
  have hl : lv_has ls 3 [(0, .ref (L 1 0)), (1, .int a1), (2, .int a2)] := hl
  unfold m_X1_join at hs
  have hL28 : ∀ (σ : st_T) (x1 : Int32) (x2 : Int32) (H : Heap) (locs : List Loc) (ls : Array Slot), wv g L σ s H locs → lv_has ls 3 [(0, .ref (L 1 0)), (1, .int x1), (2, .int x2)] → m_X1_join_L28 σ x1 x2 = some (o_, σ_) → W p l e (wrm 10 180 (xc o_) (xs o_)) s m args below meth c H locs 0 0 (vx_MQ below (wXi g L o_ σ_) (wX g o_ σ_ L) args s (xc o_) (xs o_) (fun q => gz g ≤ q)) (F0 m 28 ls []) := by
    intro σ x1 x2 H locs ls hW hl hs
    unfold m_X1_join_L28 at hs
    refine lv_aload_n hx hb dX1_join_28 rfl (lv_at hl 0 rfl) ?_
    refine gf_X1_134 hx hb hts hown hW (pr_st (hW.rd hgm) (Nat.le_of_ble_eq_true rfl)) (hW.fl hgm (pr_st (hW.rd hgm) (Nat.le_of_ble_eq_true rfl)) 26 (by decide) rfl (by decide)) dX1_join_29 ?_
    refine lv_iload_n hx hb dX1_join_32 rfl (lv_at hl 1 rfl) ?_
    refine lv_iload_n hx hb dX1_join_33 rfl (lv_at hl 2 rfl) ?_
    obtain ⟨hc1, hs⟩ := ww_chk hs
    obtain ⟨σ2, e3, hs⟩ := ww_let hs
    refine ww_zast hx hb hW 36 0 (pr_st (hW.rd hgm) (Nat.le_of_ble_eq_true rfl)) rfl hc1 dX1_join_34 (fun H locs hW => ?_)
    have hW : wv g L σ2 s H locs := by rw [e3]; exact hW
    refine lv_aload_n hx hb dX1_join_35 rfl (lv_at hl 0 rfl) ?_
    obtain ⟨v6, hc4, hs⟩ := ww_bnd hs
    refine ww_ci (va_runV (As := []) (rest := []) ⟨hx, hb, hml, hown, hts⟩ (c_X1_joined g hgm l L σ2  _ hc4) (cwV 0 hts (lw_V q730 q732 qs11 q111 q733) rfl rfl rfl hd_X1_joined ⟨(Nat.le_of_ble_eq_true rfl), (Nat.le_of_ble_eq_true rfl)⟩) (ww_preV hW (pr_st (hW.rd hgm) (Nat.le_of_ble_eq_true rfl)) (obv_0 rfl) rfl) rfl rfl hl.1 rfl (lv_room (Nat.le_of_ble_eq_true rfl)) dX1_join_36 ⟨Nat.le_of_ble_eq_true rfl, Nat.le_of_ble_eq_true rfl⟩) hW (fun H locs hW => ?_)
    have hs := ww_S hs
    exact wx_i hx hb hr hlocks hW (congrArg Prod.fst hs) (congrArg Prod.snd hs) (Nat.zero_le _) (Nat.zero_le _) dX1_join_39
  refine lv_iload_n hx hb dX1_join_0 rfl (lv_at hl 1 rfl) ?_
  obtain ⟨o9, hc7, hs⟩ := ww_bnd hs
  rcases o9 with k10 | v11
  · have hs := ww_sL hs
    have hs := ww_S hs
    have e1 : o_ = .inl k10 := congrArg Prod.fst hs
    have e2 : σ_ = σ := congrArg Prod.snd hs
    subst e1
    exact wx_prop (vx_runS (As := [.int a1]) (rest := []) ⟨hx, hb, hml, hown, hts⟩ (c_X1_family g hgm l L σ a1 hst _ hc7) (va_cwS 1 hts (lw_S q896 q897 q111 q898) rfl rfl rfl hd_X1_family.2 ⟨(Nat.le_of_ble_eq_true rfl), (Nat.le_of_ble_eq_true rfl)⟩) (ww_preS hW) rfl rfl hl.1 rfl (lv_room (Nat.le_of_ble_eq_true rfl)) dX1_join_1 ⟨Nat.le_of_ble_eq_true rfl, Nat.le_of_ble_eq_true rfl⟩) no_v hW hlocks hout rfl e2 (Nat.le_of_ble_eq_true rfl) (Nat.le_of_ble_eq_true rfl)
  · have hs := ww_sR hs
    refine ww_xv0 (vx_runS (As := [.int a1]) (rest := []) ⟨hx, hb, hml, hown, hts⟩ (c_X1_family g hgm l L σ a1 hst _ hc7) (va_cwS 1 hts (lw_S q896 q897 q111 q898) rfl rfl rfl hd_X1_family.2 ⟨(Nat.le_of_ble_eq_true rfl), (Nat.le_of_ble_eq_true rfl)⟩) (ww_preS hW) rfl rfl hl.1 rfl (lv_room (Nat.le_of_ble_eq_true rfl)) dX1_join_1 ⟨Nat.zero_le _, Nat.zero_le _⟩) hW (fun H locs hW => ?_)
    refine lv_iload_n hx hb dX1_join_4 rfl (lv_at hl 2 rfl) ?_
    refine lv_if_eq (tgt := 28) hx hb dX1_join_5 (by decide) (fun hc12 => ?_) (fun hc12 => ?_)
    · have hs := ww_T hs hc12
      exact hL28 σ a1 a2 _ _ ls hW (lv_sub hl [0, 1, 2] rfl) hs
    · have hs := ww_F hs hc12
      refine lv_aload_n hx hb dX1_join_8 rfl (lv_at hl 0 rfl) ?_
      refine gf_X1_134 hx hb hts hown hW (pr_st (hW.rd hgm) (Nat.le_of_ble_eq_true rfl)) (hW.fl hgm (pr_st (hW.rd hgm) (Nat.le_of_ble_eq_true rfl)) 26 (by decide) rfl (by decide)) dX1_join_9 ?_
      refine lv_iload_n hx hb dX1_join_12 rfl (lv_at hl 1 rfl) ?_
      obtain ⟨hc13, hs⟩ := ww_chk hs
      refine ww_zald hx hb hW 36 0 (pr_st (hW.rd hgm) (Nat.le_of_ble_eq_true rfl)) rfl hc13 dX1_join_13 ?_
      refine lv_if_ne (tgt := 28) hx hb dX1_join_14 (by decide) (fun hc14 => ?_) (fun hc14 => ?_)
      · have hs := ww_F hs hc14
        exact hL28 σ a1 a2 _ _ ls hW (lv_sub hl [0, 1, 2] rfl) hs
      · have hs := ww_T hs hc14
        refine lv_aload_n hx hb dX1_join_17 rfl (lv_at hl 0 rfl) ?_
        obtain ⟨v17, hc15, hs⟩ := ww_bnd hs
        refine ww_ci (va_runV (As := []) (rest := []) ⟨hx, hb, hml, hown, hts⟩ (c_X1_joined g hgm l L σ  _ hc15) (cwV 0 hts (lw_V q730 q732 qs11 q111 q733) rfl rfl rfl hd_X1_joined ⟨(Nat.le_of_ble_eq_true rfl), (Nat.le_of_ble_eq_true rfl)⟩) (ww_preV hW (pr_st (hW.rd hgm) (Nat.le_of_ble_eq_true rfl)) (obv_0 rfl) rfl) rfl rfl hl.1 rfl (lv_room (Nat.le_of_ble_eq_true rfl)) dX1_join_18 ⟨Nat.le_of_ble_eq_true rfl, Nat.le_of_ble_eq_true rfl⟩) hW (fun H locs hW => ?_)
        refine lv_bipush (v := 6) hx hb dX1_join_21 (by decide) ?_
        refine lv_icmp_ne (tgt := 28) hx hb dX1_join_23 (by decide) (fun hc18 => ?_) (fun hc18 => ?_)
        · have hs := ww_F hs hc18
          exact hL28 σ a1 a2 _ _ ls hW (lv_sub hl [0, 1, 2] rfl) hs
        · have hs := ww_T hs hc18
          refine lv_iconst (v := (-1)) hx hb dX1_join_26 (by decide) ?_
          have hs := ww_S hs
          exact wx_i hx hb hr hlocks hW (congrArg Prod.fst hs) (congrArg Prod.snd hs) (Nat.zero_le _) (Nat.zero_le _) dX1_join_27
set_option maxHeartbeats 4000000 in
theorem c_X1_away (g : wg_T) (hgm : gm g = true) (l : Launch) (L : ly_T) (σ : st_T) (a1 : Int32) (a2 : Int32) (a3 : Int32) (hst : l.stackTraces = false) (o_ : Nat ⊕ Int32) (σ_ : st_T) (hs : m_X1_away σ a1 a2 a3 = some (o_, σ_)) : XI g l yX1_away (ws_ yX1_away cX1_away 5 (some .boolean)) 10 180 (xc o_) (xs o_) [.ref (L 1 0), .int a1, .int a2, .int a3] L σ o_ σ_ := by
  refine xbody.met (by decide) (Nat.le_of_ble_eq_true rfl) ?_
  intro p e s m args below meth c ls hx hb hr hml hlocks hts hown hnm hout hW hl
  have hown : s.vm.findClass RX1 = some m.cls := hown
  have hl : lv_has ls 5 [(0, .ref (L 1 0)), (1, .int a1), (2, .int a2), (3, .int a3)] := hl
  unfold m_X1_away at hs
  have hL20 : ∀ (σ : st_T) (x1 : Int32) (x2 : Int32) (x3 : Int32) (t0 : Int32) (H : Heap) (locs : List Loc) (ls : Array Slot), wv g L σ s H locs → lv_has ls 5 [(0, .ref (L 1 0)), (1, .int x1), (2, .int x2), (3, .int x3)] → m_X1_away_L20 σ x1 x2 x3 t0 = some (o_, σ_) → W p l e (wrm 10 180 (xc o_) (xs o_)) s m args below meth c H locs 0 0 (vx_MQ below (wXi g L o_ σ_) (wX g o_ σ_ L) args s (xc o_) (xs o_) (fun q => gz g ≤ q)) (F0 m 20 ls [.int t0]) := by
    intro σ x1 x2 x3 t0 H locs ls hW hl hs
    unfold m_X1_away_L20 at hs
    obtain ⟨o3, hc1, hs⟩ := ww_bnd hs
    rcases o3 with k4 | v5
    · have hs := ww_sL hs
      have hs := ww_S hs
      have e1 : o_ = .inl k4 := congrArg Prod.fst hs
      have e2 : σ_ = σ := congrArg Prod.snd hs
      subst e1
      exact wx_prop (vx_runS (As := [.int t0]) (rest := []) ⟨hx, hb, hml, hown, hts⟩ (c_X1_wrong g hgm l L σ t0 hst _ hc1) (va_cwS 1 hts (lw_S q848 q849 q111 q850) rfl rfl rfl hd_X1_wrong.2 ⟨(Nat.le_of_ble_eq_true rfl), (Nat.le_of_ble_eq_true rfl)⟩) (ww_preS hW) rfl rfl hl.1 rfl (lv_room (Nat.le_of_ble_eq_true rfl)) dX1_away_20 ⟨Nat.le_of_ble_eq_true rfl, Nat.le_of_ble_eq_true rfl⟩) no_v hW hlocks hout rfl e2 (Nat.le_of_ble_eq_true rfl) (Nat.le_of_ble_eq_true rfl)
    · have hs := ww_sR hs
      refine ww_xv0 (vx_runS (As := [.int t0]) (rest := []) ⟨hx, hb, hml, hown, hts⟩ (c_X1_wrong g hgm l L σ t0 hst _ hc1) (va_cwS 1 hts (lw_S q848 q849 q111 q850) rfl rfl rfl hd_X1_wrong.2 ⟨(Nat.le_of_ble_eq_true rfl), (Nat.le_of_ble_eq_true rfl)⟩) (ww_preS hW) rfl rfl hl.1 rfl (lv_room (Nat.le_of_ble_eq_true rfl)) dX1_away_20 ⟨Nat.zero_le _, Nat.zero_le _⟩) hW (fun H locs hW => ?_)
      refine lv_aload_n hx hb dX1_away_23 rfl (lv_at hl 0 rfl) ?_
      refine gf_X1_148 hx hb hts hown hW (pr_st (hW.rd hgm) (Nat.le_of_ble_eq_true rfl)) (hW.fl hgm (pr_st (hW.rd hgm) (Nat.le_of_ble_eq_true rfl)) 30 (by decide) rfl (by decide)) dX1_away_24 ?_
      refine lv_iload_n hx hb dX1_away_27 rfl (lv_at hl 1 rfl) ?_
      obtain ⟨hc6, hs⟩ := ww_chk hs
      refine ww_aaldZ hx hb hW 40 0 (pr_st (hW.rd hgm) (Nat.le_of_ble_eq_true rfl)) rfl hc6 dX1_away_28 ?_
      refine lv_iload_n hx hb dX1_away_29 rfl (lv_at hl 2 rfl) ?_
      obtain ⟨hc7, hs⟩ := ww_chk hs
      obtain ⟨hc8, hs⟩ := ww_chk hs
      refine ww_zald hx hb hW 41 (10 * 0 + x1.toNatClampNeg) (pr_st (hW.rd hgm) hc7) rfl hc8 dX1_away_30 ?_
      refine lv_istore (lv' := [(4, .int (gA_ σ 41 (10 * 0 + x1.toNatClampNeg) x2.toNatClampNeg)), (0, .ref (L 1 0)), (1, .int x1), (2, .int x2), (3, .int x3)]) hx hb dX1_away_31 hl (by decide) rfl (fun ls hl => ?_)
      refine lv_aload_n hx hb dX1_away_33 rfl (lv_at hl 1 rfl) ?_
      refine gf_X1_148 hx hb hts hown hW (pr_st (hW.rd hgm) (Nat.le_of_ble_eq_true rfl)) (hW.fl hgm (pr_st (hW.rd hgm) (Nat.le_of_ble_eq_true rfl)) 30 (by decide) rfl (by decide)) dX1_away_34 ?_
      refine lv_iload_n hx hb dX1_away_37 rfl (lv_at hl 2 rfl) ?_
      refine ww_aaldZ hx hb hW 40 0 (pr_st (hW.rd hgm) (Nat.le_of_ble_eq_true rfl)) rfl hc6 dX1_away_38 ?_
      refine lv_iload_n hx hb dX1_away_39 rfl (lv_at hl 3 rfl) ?_
      refine lv_iload_n hx hb dX1_away_40 rfl (lv_at hl 4 rfl) ?_
      obtain ⟨σ9, e10, hs⟩ := ww_let hs
      refine ww_zast hx hb hW 41 (10 * 0 + x1.toNatClampNeg) (pr_st (hW.rd hgm) hc7) rfl hc8 dX1_away_41 (fun H locs hW => ?_)
      have hW : wv g L σ9 s H locs := by rw [e10]; exact hW
      refine lv_iload hx hb dX1_away_42 (lv_at hl 0 rfl) ?_
      obtain ⟨hc11, hs⟩ := ww_chk hs
      have hs := ww_S hs
      exact wx_z hx hb hr hlocks hW hc11 (congrArg Prod.fst hs) (congrArg Prod.snd hs) (Nat.zero_le _) (Nat.zero_le _) dX1_away_44
  refine lv_iload_n hx hb dX1_away_0 rfl (lv_at hl 1 rfl) ?_
  obtain ⟨o14, hc12, hs⟩ := ww_bnd hs
  rcases o14 with k15 | v16
  · have hs := ww_sL hs
    have hs := ww_S hs
    have e1 : o_ = .inl k15 := congrArg Prod.fst hs
    have e2 : σ_ = σ := congrArg Prod.snd hs
    subst e1
    exact wx_prop (vx_runS (As := [.int a1]) (rest := []) ⟨hx, hb, hml, hown, hts⟩ (c_X1_family g hgm l L σ a1 hst _ hc12) (va_cwS 1 hts (lw_S q896 q897 q111 q898) rfl rfl rfl hd_X1_family.2 ⟨(Nat.le_of_ble_eq_true rfl), (Nat.le_of_ble_eq_true rfl)⟩) (ww_preS hW) rfl rfl hl.1 rfl (lv_room (Nat.le_of_ble_eq_true rfl)) dX1_away_1 ⟨Nat.le_of_ble_eq_true rfl, Nat.le_of_ble_eq_true rfl⟩) no_v hW hlocks hout rfl e2 (Nat.le_of_ble_eq_true rfl) (Nat.le_of_ble_eq_true rfl)
  · have hs := ww_sR hs
    refine ww_xv0 (vx_runS (As := [.int a1]) (rest := []) ⟨hx, hb, hml, hown, hts⟩ (c_X1_family g hgm l L σ a1 hst _ hc12) (va_cwS 1 hts (lw_S q896 q897 q111 q898) rfl rfl rfl hd_X1_family.2 ⟨(Nat.le_of_ble_eq_true rfl), (Nat.le_of_ble_eq_true rfl)⟩) (ww_preS hW) rfl rfl hl.1 rfl (lv_room (Nat.le_of_ble_eq_true rfl)) dX1_away_1 ⟨Nat.zero_le _, Nat.zero_le _⟩) hW (fun H locs hW => ?_)
    refine lv_iload_n hx hb dX1_away_4 rfl (lv_at hl 2 rfl) ?_
    refine lv_iconst (v := 0) hx hb dX1_away_5 (by decide) ?_
    refine lv_sipush (v := 999) hx hb dX1_away_6 (by decide) ?_
    obtain ⟨v19, hc17, hs⟩ := ww_bnd hs
    refine ww_ci (va_runS (As := [.int a2, .int (0 : Int32), .int (999 : Int32)]) (rest := []) ⟨hx, hb, hml, hown, hts⟩ (c_X1_in g hgm l L σ a2 (0 : Int32) (999 : Int32) _ hc17) (va_cwS 3 hts (lw_S q824 q825 q111 q826) rfl rfl rfl hd_X1_in.2 ⟨(Nat.le_of_ble_eq_true rfl), (Nat.le_of_ble_eq_true rfl)⟩) (ww_preS hW) rfl rfl hl.1 rfl (lv_room (Nat.le_of_ble_eq_true rfl)) dX1_away_9 ⟨Nat.le_of_ble_eq_true rfl, Nat.le_of_ble_eq_true rfl⟩) hW (fun H locs hW => ?_)
    refine lv_if_ne (tgt := 19) hx hb dX1_away_12 (by decide) (fun hc20 => ?_) (fun hc20 => ?_)
    · have hs := ww_F hs hc20
      refine lv_iconst (v := 0) hx hb dX1_away_19 (by decide) ?_
      exact hL20 σ a1 a2 a3 (0 : Int32) _ _ ls hW (lv_sub hl [0, 1, 2, 3] rfl) hs
    · have hs := ww_T hs hc20
      refine lv_iconst (v := 1) hx hb dX1_away_15 (by decide) ?_
      refine lv_goto (tgt := 20) hx hb dX1_away_16 (by decide) ?_
      exact hL20 σ a1 a2 a3 (1 : Int32) _ _ ls hW (lv_sub hl [0, 1, 2, 3] rfl) hs
set_option maxHeartbeats 4000000 in
theorem c_X1_nights (g : wg_T) (hgm : gm g = true) (l : Launch) (L : ly_T) (σ : st_T) (a1 : Int32) (a2 : Int32) (hst : l.stackTraces = false) (o_ : Nat ⊕ Unit) (hs : m_X1_nights a1 a2 = some o_) : XV g l yX1_nights (ws_ yX1_nights cX1_nights 2 none) 9 160 (xc o_) (xs o_) [.int a1, .int a2] L σ o_ σ := by
  refine xbody.met (by decide) (Nat.le_of_ble_eq_true rfl) ?_
  intro p e s m args below meth c ls hx hb hr hml hlocks hts hown hnm hout hW hl
  have hown : s.vm.findClass RX1 = some m.cls := hown
  have hl : lv_has ls 2 [(0, .int a1), (1, .int a2)] := hl
  unfold m_X1_nights at hs
  have hL24 : ∀ (σ : st_T) (t0 : Int32) (H : Heap) (locs : List Loc) (ls : Array Slot), wv g L σ s H locs → lv_has ls 2 [] → m_X1_nights_L24 t0 = some o_ → W p l e (wrm 9 160 (xc o_) (xs o_)) s m args below meth c H locs 0 0 (vx_MQ below (wXv g L o_ σ) (wX g o_ σ L) args s (xc o_) (xs o_) (fun q => gz g ≤ q)) (F0 m 24 ls [.int t0]) := by
    intro σ t0 H locs ls hW hl hs
    unfold m_X1_nights_L24 at hs
    obtain ⟨o3, hc1, hs⟩ := ww_bnd hs
    rcases o3 with k4 | v5
    · have hs := ww_sL hs
      have hs := ww_S hs
      subst hs
      exact wx_prop (vx_runS (As := [.int t0]) (rest := []) ⟨hx, hb, hml, hown, hts⟩ (c_X1_wrong g hgm l L σ t0 hst _ hc1) (va_cwS 1 hts (lw_S q848 q849 q111 q850) rfl rfl rfl hd_X1_wrong.2 ⟨(Nat.le_of_ble_eq_true rfl), (Nat.le_of_ble_eq_true rfl)⟩) (ww_preS hW) rfl rfl hl.1 rfl (lv_room (Nat.le_of_ble_eq_true rfl)) dX1_nights_24 ⟨Nat.le_of_ble_eq_true rfl, Nat.le_of_ble_eq_true rfl⟩) no_v hW hlocks hout rfl rfl (Nat.le_of_ble_eq_true rfl) (Nat.le_of_ble_eq_true rfl)
    · have hs := ww_sR hs
      refine ww_xv0 (vx_runS (As := [.int t0]) (rest := []) ⟨hx, hb, hml, hown, hts⟩ (c_X1_wrong g hgm l L σ t0 hst _ hc1) (va_cwS 1 hts (lw_S q848 q849 q111 q850) rfl rfl rfl hd_X1_wrong.2 ⟨(Nat.le_of_ble_eq_true rfl), (Nat.le_of_ble_eq_true rfl)⟩) (ww_preS hW) rfl rfl hl.1 rfl (lv_room (Nat.le_of_ble_eq_true rfl)) dX1_nights_24 ⟨Nat.zero_le _, Nat.zero_le _⟩) hW (fun H locs hW => ?_)
      have hs := ww_S hs
      exact wx_v hx hb hr hlocks hW hs rfl (Nat.zero_le _) (Nat.zero_le _) dX1_nights_27
  have hL19 : ∀ (σ : st_T)  (H : Heap) (locs : List Loc) (ls : Array Slot), wv g L σ s H locs → lv_has ls 2 [] → (m_X1_nights_L19 m_X1_nights_L24) = some o_ → W p l e (wrm 9 160 (xc o_) (xs o_)) s m args below meth c H locs 0 0 (vx_MQ below (wXv g L o_ σ) (wX g o_ σ L) args s (xc o_) (xs o_) (fun q => gz g ≤ q)) (F0 m 19 ls []) := by
    intro σ H locs ls hW hl hs
    unfold m_X1_nights_L19 at hs
    refine lv_iconst (v := 1) hx hb dX1_nights_19 (by decide) ?_
    refine lv_goto (tgt := 24) hx hb dX1_nights_20 (by decide) ?_
    exact hL24 σ (1 : Int32) _ _ ls hW (lv_sub hl [] rfl) hs
  refine lv_iload_n hx hb dX1_nights_0 rfl (lv_at hl 0 rfl) ?_
  refine lv_iconst (v := 1) hx hb dX1_nights_1 (by decide) ?_
  refine lv_bipush (v := 6) hx hb dX1_nights_2 (by decide) ?_
  obtain ⟨v8, hc6, hs⟩ := ww_bnd hs
  refine ww_ci (va_runS (As := [.int a1, .int (1 : Int32), .int (6 : Int32)]) (rest := []) ⟨hx, hb, hml, hown, hts⟩ (c_X1_in g hgm l L σ a1 (1 : Int32) (6 : Int32) _ hc6) (va_cwS 3 hts (lw_S q824 q825 q111 q826) rfl rfl rfl hd_X1_in.2 ⟨(Nat.le_of_ble_eq_true rfl), (Nat.le_of_ble_eq_true rfl)⟩) (ww_preS hW) rfl rfl hl.1 rfl (lv_room (Nat.le_of_ble_eq_true rfl)) dX1_nights_4 ⟨Nat.le_of_ble_eq_true rfl, Nat.le_of_ble_eq_true rfl⟩) hW (fun H locs hW => ?_)
  refine lv_if_eq (tgt := 19) hx hb dX1_nights_7 (by decide) (fun hc9 => ?_) (fun hc9 => ?_)
  · have hs := ww_T hs hc9
    exact hL19 σ _ _ ls hW (lv_sub hl [] rfl) hs
  · have hs := ww_F hs hc9
    refine lv_iload_n hx hb dX1_nights_10 rfl (lv_at hl 1 rfl) ?_
    refine lv_iconst (v := 1) hx hb dX1_nights_11 (by decide) ?_
    refine lv_iconst (v := 2) hx hb dX1_nights_12 (by decide) ?_
    obtain ⟨v12, hc10, hs⟩ := ww_bnd hs
    refine ww_ci (va_runS (As := [.int a2, .int (1 : Int32), .int (2 : Int32)]) (rest := []) ⟨hx, hb, hml, hown, hts⟩ (c_X1_in g hgm l L σ a2 (1 : Int32) (2 : Int32) _ hc10) (va_cwS 3 hts (lw_S q824 q825 q111 q826) rfl rfl rfl hd_X1_in.2 ⟨(Nat.le_of_ble_eq_true rfl), (Nat.le_of_ble_eq_true rfl)⟩) (ww_preS hW) rfl rfl hl.1 rfl (lv_room (Nat.le_of_ble_eq_true rfl)) dX1_nights_13 ⟨Nat.le_of_ble_eq_true rfl, Nat.le_of_ble_eq_true rfl⟩) hW (fun H locs hW => ?_)
    refine lv_if_ne (tgt := 23) hx hb dX1_nights_16 (by decide) (fun hc13 => ?_) (fun hc13 => ?_)
    · have hs := ww_F hs hc13
      refine lv_iconst (v := 0) hx hb dX1_nights_23 (by decide) ?_
      exact hL24 σ (0 : Int32) _ _ ls hW (lv_sub hl [] rfl) hs
    · have hs := ww_T hs hc13
      exact hL19 σ _ _ ls hW (lv_sub hl [] rfl) hs
set_option maxHeartbeats 4000000 in
theorem c_X1_isAway (g : wg_T) (hgm : gm g = true) (l : Launch) (L : ly_T) (σ : st_T) (a1 : Int32) (a2 : Int32) (r_ : Int32) (hs : m_X1_isAway σ a1 a2 = some r_) : CI g l yX1_isAway (ws_ yX1_isAway cX1_isAway 3 (some .boolean)) 2 60 0 0 [.ref (L 1 0), .int a1, .int a2] L σ r_ σ := by
  refine wbody.met (by decide) (Nat.le_of_ble_eq_true rfl) ?_
  intro p e s m args below meth c ls hx hb hr hml hlocks hts hown hnm hW hl
  have hown : s.vm.findClass RX1 = some m.cls := hown
  have hl : lv_has ls 3 [(0, .ref (L 1 0)), (1, .int a1), (2, .int a2)] := hl
  unfold m_X1_isAway at hs
  have hL23 : ∀ (σ : st_T) (t0 : Int32) (H : Heap) (locs : List Loc) (ls : Array Slot), wv g L σ s H locs → lv_has ls 3 [] → m_X1_isAway_L23 σ t0 = some r_ → W p l e (wrm 2 60 0 0) s m args below meth c H locs 0 0 (MQ below (wQi g L r_ σ) args s 0 0 (fun q => gz g ≤ q)) (F0 m 23 ls [.int t0]) := by
    intro σ t0 H locs ls hW hl hs
    unfold m_X1_isAway_L23 at hs
    obtain ⟨hc1, hs⟩ := ww_chk hs
    have hs := ww_S hs
    exact we_z hx hb hr hlocks hW hc1 hs rfl (Nat.le_of_ble_eq_true rfl) (Nat.le_of_ble_eq_true rfl) dX1_isAway_23
  have hL22 : ∀ (σ : st_T)  (H : Heap) (locs : List Loc) (ls : Array Slot), wv g L σ s H locs → lv_has ls 3 [] → (m_X1_isAway_L22 m_X1_isAway_L23) σ = some r_ → W p l e (wrm 2 60 0 0) s m args below meth c H locs 0 0 (MQ below (wQi g L r_ σ) args s 0 0 (fun q => gz g ≤ q)) (F0 m 22 ls []) := by
    intro σ H locs ls hW hl hs
    unfold m_X1_isAway_L22 at hs
    refine lv_iconst (v := 0) hx hb dX1_isAway_22 (by decide) ?_
    exact hL23 σ (0 : Int32) _ _ ls hW (lv_sub hl [] rfl) hs
  refine lv_iload_n hx hb dX1_isAway_0 rfl (lv_at hl 2 rfl) ?_
  refine lv_sipush (v := 1000) hx hb dX1_isAway_1 (by decide) ?_
  refine lv_icmp_ge (tgt := 22) hx hb dX1_isAway_4 (by decide) (fun hc2 => ?_) (fun hc2 => ?_)
  · have hs := ww_T hs hc2
    exact hL22 σ _ _ ls hW (lv_sub hl [] rfl) hs
  · have hs := ww_F hs hc2
    refine lv_aload_n hx hb dX1_isAway_7 rfl (lv_at hl 0 rfl) ?_
    refine gf_X1_148 hx hb hts hown hW (pr_st (hW.rd hgm) (Nat.le_of_ble_eq_true rfl)) (hW.fl hgm (pr_st (hW.rd hgm) (Nat.le_of_ble_eq_true rfl)) 30 (by decide) rfl (by decide)) dX1_isAway_8 ?_
    refine lv_iload_n hx hb dX1_isAway_11 rfl (lv_at hl 1 rfl) ?_
    obtain ⟨hc3, hs⟩ := ww_chk hs
    refine ww_aaldZ hx hb hW 40 0 (pr_st (hW.rd hgm) (Nat.le_of_ble_eq_true rfl)) rfl hc3 dX1_isAway_12 ?_
    refine lv_iload_n hx hb dX1_isAway_13 rfl (lv_at hl 2 rfl) ?_
    obtain ⟨hc4, hs⟩ := ww_chk hs
    obtain ⟨hc5, hs⟩ := ww_chk hs
    refine ww_zald hx hb hW 41 (10 * 0 + a1.toNatClampNeg) (pr_st (hW.rd hgm) hc4) rfl hc5 dX1_isAway_14 ?_
    refine lv_if_eq (tgt := 22) hx hb dX1_isAway_15 (by decide) (fun hc6 => ?_) (fun hc6 => ?_)
    · have hs := ww_T hs hc6
      exact hL22 σ _ _ ls hW (lv_sub hl [] rfl) hs
    · have hs := ww_F hs hc6
      refine lv_iconst (v := 1) hx hb dX1_isAway_18 (by decide) ?_
      refine lv_goto (tgt := 23) hx hb dX1_isAway_19 (by decide) ?_
      exact hL23 σ (1 : Int32) _ _ ls hW (lv_sub hl [] rfl) hs
set_option maxHeartbeats 4000000 in
theorem c_X1_claimAt (g : wg_T) (hgm : gm g = true) (l : Launch) (L : ly_T) (σ : st_T) (a1 : Int32) (hst : l.stackTraces = false) (o_ : Nat ⊕ Nat) (hs : m_X1_claimAt σ a1 = some o_) : XR g l yX1_claimAt (ws_ yX1_claimAt cX1_claimAt 2 (some (.object "ElephantEdge$Claim"))) 8 150 (xc o_) (xs o_) [.ref (L 1 0), .int a1] L σ 83 o_ σ := by
  refine xbody.met (by decide) (Nat.le_of_ble_eq_true rfl) ?_
  intro p e s m args below meth c ls hx hb hr hml hlocks hts hown hnm hout hW hl
  have hown : s.vm.findClass RX1 = some m.cls := hown
  have hl : lv_has ls 2 [(0, .ref (L 1 0)), (1, .int a1)] := hl
  unfold m_X1_claimAt at hs
  refine lv_iload_n hx hb dX1_claimAt_0 rfl (lv_at hl 1 rfl) ?_
  refine lv_iconst (v := 0) hx hb dX1_claimAt_1 (by decide) ?_
  refine lv_aload_n hx hb dX1_claimAt_2 rfl (lv_at hl 0 rfl) ?_
  refine gf_X1_75 hx hb hts hown hW (pr_st (hW.rd hgm) (Nat.le_of_ble_eq_true rfl)) (hW.fl hgm (pr_st (hW.rd hgm) (Nat.le_of_ble_eq_true rfl)) 7 (by decide) rfl (by decide)) dX1_claimAt_3 ?_
  refine ww_ci (va_runV (As := []) (rest := [.int (0 : Int32), .int a1]) ⟨hx, hb, hml, hown, hts⟩ (c_AL_size g hgm l L σ 72 0 73 rfl rfl (pr_st (hW.rd hgm) (Nat.le_of_ble_eq_true rfl))) (cwV 0 hts (lw_V q514 q515 q516 q117 q517) rfl rfl rfl hd_J2_size ⟨(Nat.le_of_ble_eq_true rfl), (Nat.le_of_ble_eq_true rfl)⟩) (ww_preV hW (pr_st (hW.rd hgm) (Nat.le_of_ble_eq_true rfl)) (obv_0 rfl) rfl) rfl rfl hl.1 rfl (lv_room (Nat.le_of_ble_eq_true rfl)) dX1_claimAt_6 ⟨Nat.zero_le _, Nat.zero_le _⟩) hW (fun H locs hW => ?_)
  refine lv_iconst (v := 1) hx hb dX1_claimAt_9 (by decide) ?_
  refine lv_isub hx hb dX1_claimAt_10 ?_
  obtain ⟨v3, hc1, hs⟩ := ww_bnd hs
  refine ww_ci (va_runS (As := [.int a1, .int (0 : Int32), .int ((gF_ σ 72 2 0) - (1 : Int32))]) (rest := []) ⟨hx, hb, hml, hown, hts⟩ (c_X1_in g hgm l L σ a1 (0 : Int32) ((gF_ σ 72 2 0) - (1 : Int32)) _ hc1) (va_cwS 3 hts (lw_S q824 q825 q111 q826) rfl rfl rfl hd_X1_in.2 ⟨(Nat.le_of_ble_eq_true rfl), (Nat.le_of_ble_eq_true rfl)⟩) (ww_preS hW) rfl rfl hl.1 rfl (lv_room (Nat.le_of_ble_eq_true rfl)) dX1_claimAt_11 ⟨Nat.le_of_ble_eq_true rfl, Nat.le_of_ble_eq_true rfl⟩) hW (fun H locs hW => ?_)
  refine lv_if_ne (tgt := 25) hx hb dX1_claimAt_14 (by decide) (fun hc4 => ?_) (fun hc4 => ?_)
  · have hs := ww_F hs hc4
    refine lv_aload_n hx hb dX1_claimAt_25 rfl (lv_at hl 0 rfl) ?_
    refine gf_X1_75 hx hb hts hown hW (pr_st (hW.rd hgm) (Nat.le_of_ble_eq_true rfl)) (hW.fl hgm (pr_st (hW.rd hgm) (Nat.le_of_ble_eq_true rfl)) 7 (by decide) rfl (by decide)) dX1_claimAt_26 ?_
    refine lv_iload_n hx hb dX1_claimAt_29 rfl (lv_at hl 1 rfl) ?_
    obtain ⟨hc5, hs⟩ := ww_chk hs
    refine ww_cr (va_runV (As := [.int a1]) (rest := []) ⟨hx, hb, hml, hown, hts⟩ (c_AL_get g hgm l L σ 72 0 73 83 a1 rfl rfl rfl (pr_st (hW.rd hgm) (Nat.le_of_ble_eq_true rfl)) hc5) (cwV 1 hts (lw_V q518 q519 q520 q117 q521) rfl rfl rfl hd_J2_get ⟨(Nat.le_of_ble_eq_true rfl), (Nat.le_of_ble_eq_true rfl)⟩) (ww_preV hW (pr_st (hW.rd hgm) (Nat.le_of_ble_eq_true rfl)) (obv_0 rfl) rfl) rfl rfl hl.1 rfl (lv_room (Nat.le_of_ble_eq_true rfl)) dX1_claimAt_30 ⟨Nat.zero_le _, Nat.zero_le _⟩) hW (fun H locs hW => ?_)
    obtain ⟨hc6, hs⟩ := ww_chk hs
    refine ww_castS hx hb hown (hts _ q606) hW (pr_dy hc6 rfl rfl) (obv_0 rfl) rfl dX1_claimAt_33 ?_
    have hs := ww_S hs
    exact wx_r hx hb hr hlocks hW hs rfl (Nat.zero_le _) (Nat.zero_le _) dX1_claimAt_36
  · have hs := ww_T hs hc4
    have hs := ww_S hs
    exact th_X1_3 hx hb hlocks hown hts hml hl.1 hout hst hW hs rfl dX1_claimAt_17 dX1_claimAt_20 dX1_claimAt_21 dX1_claimAt_24 (Nat.le_of_ble_eq_true rfl) (Nat.le_of_ble_eq_true rfl) rfl rfl
set_option maxHeartbeats 4000000 in
theorem c_X1_fund (g : wg_T) (hgm : gm g = true) (l : Launch) (L : ly_T) (σ : st_T) (a1 : Int32) (hst : l.stackTraces = false) (o_ : Nat ⊕ Int32) (σ_ : st_T) (hs : m_X1_fund σ a1 = some (o_, σ_)) : XI g l yX1_fund (ws_ yX1_fund cX1_fund 2 (some .int)) 9 160 (xc o_) (xs o_) [.ref (L 1 0), .int a1] L σ o_ σ_ := by
  refine xbody.met (by decide) (Nat.le_of_ble_eq_true rfl) ?_
  intro p e s m args below meth c ls hx hb hr hml hlocks hts hown hnm hout hW hl
  have hown : s.vm.findClass RX1 = some m.cls := hown
  have hl : lv_has ls 2 [(0, .ref (L 1 0)), (1, .int a1)] := hl
  unfold m_X1_fund at hs
  have hL16 : ∀ (σ : st_T) (x1 : Int32) (t0 : Int32) (H : Heap) (locs : List Loc) (ls : Array Slot), wv g L σ s H locs → lv_has ls 2 [(0, .ref (L 1 0)), (1, .int x1)] → m_X1_fund_L16 σ x1 t0 = some (o_, σ_) → W p l e (wrm 9 160 (xc o_) (xs o_)) s m args below meth c H locs 0 0 (vx_MQ below (wXi g L o_ σ_) (wX g o_ σ_ L) args s (xc o_) (xs o_) (fun q => gz g ≤ q)) (F0 m 16 ls [.int t0]) := by
    intro σ x1 t0 H locs ls hW hl hs
    unfold m_X1_fund_L16 at hs
    obtain ⟨o3, hc1, hs⟩ := ww_bnd hs
    rcases o3 with k4 | v5
    · have hs := ww_sL hs
      have hs := ww_S hs
      have e1 : o_ = .inl k4 := congrArg Prod.fst hs
      have e2 : σ_ = σ := congrArg Prod.snd hs
      subst e1
      exact wx_prop (vx_runS (As := [.int t0]) (rest := []) ⟨hx, hb, hml, hown, hts⟩ (c_X1_wrong g hgm l L σ t0 hst _ hc1) (va_cwS 1 hts (lw_S q848 q849 q111 q850) rfl rfl rfl hd_X1_wrong.2 ⟨(Nat.le_of_ble_eq_true rfl), (Nat.le_of_ble_eq_true rfl)⟩) (ww_preS hW) rfl rfl hl.1 rfl (lv_room (Nat.le_of_ble_eq_true rfl)) dX1_fund_16 ⟨Nat.le_of_ble_eq_true rfl, Nat.le_of_ble_eq_true rfl⟩) no_v hW hlocks hout rfl e2 (Nat.le_of_ble_eq_true rfl) (Nat.le_of_ble_eq_true rfl)
    · have hs := ww_sR hs
      refine ww_xv0 (vx_runS (As := [.int t0]) (rest := []) ⟨hx, hb, hml, hown, hts⟩ (c_X1_wrong g hgm l L σ t0 hst _ hc1) (va_cwS 1 hts (lw_S q848 q849 q111 q850) rfl rfl rfl hd_X1_wrong.2 ⟨(Nat.le_of_ble_eq_true rfl), (Nat.le_of_ble_eq_true rfl)⟩) (ww_preS hW) rfl rfl hl.1 rfl (lv_room (Nat.le_of_ble_eq_true rfl)) dX1_fund_16 ⟨Nat.zero_le _, Nat.zero_le _⟩) hW (fun H locs hW => ?_)
      refine lv_aload_n hx hb dX1_fund_19 rfl (lv_at hl 0 rfl) ?_
      refine lv_aload_n hx hb dX1_fund_20 rfl (lv_at hl 0 rfl) ?_
      refine gf_X1_414 hx hb hts hown hW (pr_st (hW.rd hgm) (Nat.le_of_ble_eq_true rfl)) dX1_fund_21 ?_
      refine lv_iload_n hx hb dX1_fund_24 rfl (lv_at hl 1 rfl) ?_
      refine lv_iadd hx hb dX1_fund_25 ?_
      refine lv_ldcw hx hb hown (hts _ q567) dX1_fund_26 ?_
      refine va_mmin hx hb (hml.trans hl.1.symm) hown (hts _ q573) (hts _ q505) (hts _ q134) (hts _ q506) (Nat.le_of_ble_eq_true rfl) (Nat.le_of_ble_eq_true rfl) (Nat.le_of_ble_eq_true rfl) (Nat.le_of_ble_eq_true rfl) dX1_fund_29 ?_
      obtain ⟨σ6, e7, hs⟩ := ww_let hs
      refine pf_X1_414 hx hb hts hown hW (pr_st (hW.rd hgm) (Nat.le_of_ble_eq_true rfl)) dX1_fund_32 (fun H locs hW => ?_)
      have hW : wv g L σ6 s H locs := by rw [e7]; exact hW
      refine lv_aload_n hx hb dX1_fund_35 rfl (lv_at hl 0 rfl) ?_
      refine gf_X1_414 hx hb hts hown hW (pr_st (hW.rd hgm) (Nat.le_of_ble_eq_true rfl)) dX1_fund_36 ?_
      have hs := ww_S hs
      exact wx_i hx hb hr hlocks hW (congrArg Prod.fst hs) (congrArg Prod.snd hs) (Nat.zero_le _) (Nat.zero_le _) dX1_fund_39
  refine lv_iload_n hx hb dX1_fund_0 rfl (lv_at hl 1 rfl) ?_
  refine lv_iconst (v := 0) hx hb dX1_fund_1 (by decide) ?_
  refine lv_ldcw hx hb hown (hts _ q1409) dX1_fund_2 ?_
  obtain ⟨v10, hc8, hs⟩ := ww_bnd hs
  refine ww_ci (va_runS (As := [.int a1, .int (0 : Int32), .int (1000000 : Int32)]) (rest := []) ⟨hx, hb, hml, hown, hts⟩ (c_X1_in g hgm l L σ a1 (0 : Int32) (1000000 : Int32) _ hc8) (va_cwS 3 hts (lw_S q824 q825 q111 q826) rfl rfl rfl hd_X1_in.2 ⟨(Nat.le_of_ble_eq_true rfl), (Nat.le_of_ble_eq_true rfl)⟩) (ww_preS hW) rfl rfl hl.1 rfl (lv_room (Nat.le_of_ble_eq_true rfl)) dX1_fund_5 ⟨Nat.le_of_ble_eq_true rfl, Nat.le_of_ble_eq_true rfl⟩) hW (fun H locs hW => ?_)
  refine lv_if_ne (tgt := 15) hx hb dX1_fund_8 (by decide) (fun hc11 => ?_) (fun hc11 => ?_)
  · have hs := ww_F hs hc11
    refine lv_iconst (v := 0) hx hb dX1_fund_15 (by decide) ?_
    exact hL16 σ a1 (0 : Int32) _ _ ls hW (lv_sub hl [0, 1] rfl) hs
  · have hs := ww_T hs hc11
    refine lv_iconst (v := 1) hx hb dX1_fund_11 (by decide) ?_
    refine lv_goto (tgt := 16) hx hb dX1_fund_12 (by decide) ?_
    exact hL16 σ a1 (1 : Int32) _ _ ls hW (lv_sub hl [0, 1] rfl) hs
set_option maxHeartbeats 4000000 in
theorem c_X1_hour (g : wg_T) (hgm : gm g = true) (l : Launch) (L : ly_T) (σ : st_T) (a1 : Int32) (hst : l.stackTraces = false) (o_ : Nat ⊕ Unit) (hs : m_X1_hour a1 = some o_) : XV g l yX1_hour (ws_ yX1_hour cX1_hour 1 none) 9 160 (xc o_) (xs o_) [.int a1] L σ o_ σ := by
  refine xbody.met (by decide) (Nat.le_of_ble_eq_true rfl) ?_
  intro p e s m args below meth c ls hx hb hr hml hlocks hts hown hnm hout hW hl
  have hown : s.vm.findClass RX1 = some m.cls := hown
  have hl : lv_has ls 1 [(0, .int a1)] := hl
  unfold m_X1_hour at hs
  have hL15 : ∀ (σ : st_T) (t0 : Int32) (H : Heap) (locs : List Loc) (ls : Array Slot), wv g L σ s H locs → lv_has ls 1 [] → m_X1_hour_L15 t0 = some o_ → W p l e (wrm 9 160 (xc o_) (xs o_)) s m args below meth c H locs 0 0 (vx_MQ below (wXv g L o_ σ) (wX g o_ σ L) args s (xc o_) (xs o_) (fun q => gz g ≤ q)) (F0 m 15 ls [.int t0]) := by
    intro σ t0 H locs ls hW hl hs
    unfold m_X1_hour_L15 at hs
    obtain ⟨o3, hc1, hs⟩ := ww_bnd hs
    rcases o3 with k4 | v5
    · have hs := ww_sL hs
      have hs := ww_S hs
      subst hs
      exact wx_prop (vx_runS (As := [.int t0]) (rest := []) ⟨hx, hb, hml, hown, hts⟩ (c_X1_wrong g hgm l L σ t0 hst _ hc1) (va_cwS 1 hts (lw_S q848 q849 q111 q850) rfl rfl rfl hd_X1_wrong.2 ⟨(Nat.le_of_ble_eq_true rfl), (Nat.le_of_ble_eq_true rfl)⟩) (ww_preS hW) rfl rfl hl.1 rfl (lv_room (Nat.le_of_ble_eq_true rfl)) dX1_hour_15 ⟨Nat.le_of_ble_eq_true rfl, Nat.le_of_ble_eq_true rfl⟩) no_v hW hlocks hout rfl rfl (Nat.le_of_ble_eq_true rfl) (Nat.le_of_ble_eq_true rfl)
    · have hs := ww_sR hs
      refine ww_xv0 (vx_runS (As := [.int t0]) (rest := []) ⟨hx, hb, hml, hown, hts⟩ (c_X1_wrong g hgm l L σ t0 hst _ hc1) (va_cwS 1 hts (lw_S q848 q849 q111 q850) rfl rfl rfl hd_X1_wrong.2 ⟨(Nat.le_of_ble_eq_true rfl), (Nat.le_of_ble_eq_true rfl)⟩) (ww_preS hW) rfl rfl hl.1 rfl (lv_room (Nat.le_of_ble_eq_true rfl)) dX1_hour_15 ⟨Nat.zero_le _, Nat.zero_le _⟩) hW (fun H locs hW => ?_)
      have hs := ww_S hs
      exact wx_v hx hb hr hlocks hW hs rfl (Nat.zero_le _) (Nat.zero_le _) dX1_hour_18
  refine lv_iload_n hx hb dX1_hour_0 rfl (lv_at hl 0 rfl) ?_
  refine lv_iconst (v := 0) hx hb dX1_hour_1 (by decide) ?_
  refine lv_ldc hx hb hown (hts _ q1386) dX1_hour_2 ?_
  obtain ⟨v8, hc6, hs⟩ := ww_bnd hs
  refine ww_ci (va_runS (As := [.int a1, .int (0 : Int32), .int (100000 : Int32)]) (rest := []) ⟨hx, hb, hml, hown, hts⟩ (c_X1_in g hgm l L σ a1 (0 : Int32) (100000 : Int32) _ hc6) (va_cwS 3 hts (lw_S q824 q825 q111 q826) rfl rfl rfl hd_X1_in.2 ⟨(Nat.le_of_ble_eq_true rfl), (Nat.le_of_ble_eq_true rfl)⟩) (ww_preS hW) rfl rfl hl.1 rfl (lv_room (Nat.le_of_ble_eq_true rfl)) dX1_hour_4 ⟨Nat.le_of_ble_eq_true rfl, Nat.le_of_ble_eq_true rfl⟩) hW (fun H locs hW => ?_)
  refine lv_if_ne (tgt := 14) hx hb dX1_hour_7 (by decide) (fun hc9 => ?_) (fun hc9 => ?_)
  · have hs := ww_F hs hc9
    refine lv_iconst (v := 0) hx hb dX1_hour_14 (by decide) ?_
    exact hL15 σ (0 : Int32) _ _ ls hW (lv_sub hl [] rfl) hs
  · have hs := ww_T hs hc9
    refine lv_iconst (v := 1) hx hb dX1_hour_10 (by decide) ?_
    refine lv_goto (tgt := 15) hx hb dX1_hour_11 (by decide) ?_
    exact hL15 σ (1 : Int32) _ _ ls hW (lv_sub hl [] rfl) hs
set_option maxHeartbeats 4000000 in
theorem c_X1_windOf (g : wg_T) (hgm : gm g = true) (l : Launch) (L : ly_T) (σ : st_T) (a1 : Int32) (r_ : Int32) (hs : m_X1_windOf σ a1 = some r_) : CI g l yX1_windOf (ws_ yX1_windOf cX1_windOf 3 (some .int)) 2 60 0 0 [.ref (L 1 0), .int a1] L σ r_ σ := by
  refine wbody.met (by decide) (Nat.le_of_ble_eq_true rfl) ?_
  intro p e s m args below meth c ls hx hb hr hml hlocks hts hown hnm hW hl
  have hown : s.vm.findClass RX1 = some m.cls := hown
  have hl : lv_has ls 3 [(0, .ref (L 1 0)), (1, .int a1)] := hl
  unfold m_X1_windOf at hs
  have hL2 : ∀ (n2 : Nat), ∀ (σ : st_T) (x1 : Int32) (x2 : Int32) (H : Heap) (locs : List Loc) (ls : Array Slot), wv g L σ s H locs → lv_has ls 3 [(0, .ref (L 1 0)), (1, .int x1), (2, .int x2)] → (m_X1_windOf_L2 n2) σ x1 x2 = some r_ → W p l e (wrm 2 60 0 0) s m args below meth c H locs 0 0 (MQ below (wQi g L r_ σ) args s 0 0 (fun q => gz g ≤ q)) (F0 m 2 ls []) := by
    intro n2
    induction n2 with
    | zero => intro σ x1 x2 H locs ls hW hl hs; rw [m_X1_windOf_L2] at hs; cases hs
    | succ n2 ih2 =>
      have hL26 : ∀ (σ : st_T) (x2 : Int32) (H : Heap) (locs : List Loc) (ls : Array Slot), wv g L σ s H locs → lv_has ls 3 [(2, .int x2)] → m_X1_windOf_L26 σ x2 = some r_ → W p l e (wrm 2 60 0 0) s m args below meth c H locs 0 0 (MQ below (wQi g L r_ σ) args s 0 0 (fun q => gz g ≤ q)) (F0 m 26 ls []) := by
        intro σ x2 H locs ls hW hl hs
        unfold m_X1_windOf_L26 at hs
        refine lv_iload_n hx hb dX1_windOf_26 rfl (lv_at hl 0 rfl) ?_
        have hs := ww_S hs
        exact we_i hx hb hr hlocks hW hs rfl (Nat.le_of_ble_eq_true rfl) (Nat.le_of_ble_eq_true rfl) dX1_windOf_27
      intro σ x1 x2 H locs ls hW hl hs
      rw [m_X1_windOf_L2] at hs
      refine lv_iload_n hx hb dX1_windOf_2 rfl (lv_at hl 2 rfl) ?_
      refine lv_aload_n hx hb dX1_windOf_3 rfl (lv_at hl 0 rfl) ?_
      refine gf_X1_462 hx hb hts hown hW (pr_st (hW.rd hgm) (Nat.le_of_ble_eq_true rfl)) dX1_windOf_4 ?_
      refine lv_icmp_ge (tgt := 26) hx hb dX1_windOf_7 (by decide) (fun hc1 => ?_) (fun hc1 => ?_)
      · have hs := ww_T hs hc1
        exact hL26 σ x2 _ _ ls hW (lv_sub hl [2] rfl) hs
      · have hs := ww_F hs hc1
        refine lv_aload_n hx hb dX1_windOf_10 rfl (lv_at hl 0 rfl) ?_
        refine gf_X1_106 hx hb hts hown hW (pr_st (hW.rd hgm) (Nat.le_of_ble_eq_true rfl)) (hW.fl hgm (pr_st (hW.rd hgm) (Nat.le_of_ble_eq_true rfl)) 17 (by decide) rfl (by decide)) dX1_windOf_11 ?_
        refine lv_iload_n hx hb dX1_windOf_14 rfl (lv_at hl 2 rfl) ?_
        obtain ⟨hc2, hs⟩ := ww_chk hs
        refine ww_iald hx hb hW 27 0 (pr_st (hW.rd hgm) (Nat.le_of_ble_eq_true rfl)) rfl hc2 dX1_windOf_15 ?_
        refine lv_iload_n hx hb dX1_windOf_16 rfl (lv_at hl 1 rfl) ?_
        refine lv_icmp_eq (tgt := 26) hx hb dX1_windOf_17 (by decide) (fun hc3 => ?_) (fun hc3 => ?_)
        · have hs := ww_T hs hc3
          exact hL26 σ x2 _ _ ls hW (lv_sub hl [2] rfl) hs
        · have hs := ww_F hs hc3
          refine lv_iinc (v := (x2 + (1 : Int32))) (lv' := [(2, .int (x2 + (1 : Int32))), (0, .ref (L 1 0)), (1, .int x1)]) hx hb dX1_windOf_20 hl (k := 2) rfl rfl (by decide) rfl (fun ls hl => ?_)
          refine lv_goto (tgt := 2) hx hb dX1_windOf_23 (by decide) ?_
          exact ih2 σ x1 (x2 + (1 : Int32)) _ _ ls hW (lv_sub hl [1, 2, 0] rfl) hs
  refine lv_iconst (v := 0) hx hb dX1_windOf_0 (by decide) ?_
  refine lv_istore_n (lv' := [(2, .int (0 : Int32)), (0, .ref (L 1 0)), (1, .int a1)]) hx hb dX1_windOf_1 rfl hl (by decide) rfl (fun ls hl => ?_)
  exact hL2 fu_ σ a1 (0 : Int32) _ _ ls hW (lv_sub hl [1, 2, 0] rfl) hs
set_option maxHeartbeats 4000000 in
theorem c_X1_wireAt (g : wg_T) (hgm : gm g = true) (l : Launch) (L : ly_T) (σ : st_T) (a1 : Int32) (hst : l.stackTraces = false) (o_ : Nat ⊕ Nat) (hs : m_X1_wireAt σ a1 = some o_) : XR g l yX1_wireAt (ws_ yX1_wireAt cX1_wireAt 2 (some (.object "ElephantEdge$Wire"))) 8 150 (xc o_) (xs o_) [.ref (L 1 0), .int a1] L σ 85 o_ σ := by
  refine xbody.met (by decide) (Nat.le_of_ble_eq_true rfl) ?_
  intro p e s m args below meth c ls hx hb hr hml hlocks hts hown hnm hout hW hl
  have hown : s.vm.findClass RX1 = some m.cls := hown
  have hl : lv_has ls 2 [(0, .ref (L 1 0)), (1, .int a1)] := hl
  unfold m_X1_wireAt at hs
  refine lv_iload_n hx hb dX1_wireAt_0 rfl (lv_at hl 1 rfl) ?_
  refine lv_iconst (v := 0) hx hb dX1_wireAt_1 (by decide) ?_
  refine lv_aload_n hx hb dX1_wireAt_2 rfl (lv_at hl 0 rfl) ?_
  refine gf_X1_78 hx hb hts hown hW (pr_st (hW.rd hgm) (Nat.le_of_ble_eq_true rfl)) (hW.fl hgm (pr_st (hW.rd hgm) (Nat.le_of_ble_eq_true rfl)) 8 (by decide) rfl (by decide)) dX1_wireAt_3 ?_
  refine ww_ci (va_runV (As := []) (rest := [.int (0 : Int32), .int a1]) ⟨hx, hb, hml, hown, hts⟩ (c_AL_size g hgm l L σ 74 0 75 rfl rfl (pr_st (hW.rd hgm) (Nat.le_of_ble_eq_true rfl))) (cwV 0 hts (lw_V q514 q515 q516 q117 q517) rfl rfl rfl hd_J2_size ⟨(Nat.le_of_ble_eq_true rfl), (Nat.le_of_ble_eq_true rfl)⟩) (ww_preV hW (pr_st (hW.rd hgm) (Nat.le_of_ble_eq_true rfl)) (obv_0 rfl) rfl) rfl rfl hl.1 rfl (lv_room (Nat.le_of_ble_eq_true rfl)) dX1_wireAt_6 ⟨Nat.zero_le _, Nat.zero_le _⟩) hW (fun H locs hW => ?_)
  refine lv_iconst (v := 1) hx hb dX1_wireAt_9 (by decide) ?_
  refine lv_isub hx hb dX1_wireAt_10 ?_
  obtain ⟨v3, hc1, hs⟩ := ww_bnd hs
  refine ww_ci (va_runS (As := [.int a1, .int (0 : Int32), .int ((gF_ σ 74 2 0) - (1 : Int32))]) (rest := []) ⟨hx, hb, hml, hown, hts⟩ (c_X1_in g hgm l L σ a1 (0 : Int32) ((gF_ σ 74 2 0) - (1 : Int32)) _ hc1) (va_cwS 3 hts (lw_S q824 q825 q111 q826) rfl rfl rfl hd_X1_in.2 ⟨(Nat.le_of_ble_eq_true rfl), (Nat.le_of_ble_eq_true rfl)⟩) (ww_preS hW) rfl rfl hl.1 rfl (lv_room (Nat.le_of_ble_eq_true rfl)) dX1_wireAt_11 ⟨Nat.le_of_ble_eq_true rfl, Nat.le_of_ble_eq_true rfl⟩) hW (fun H locs hW => ?_)
  refine lv_if_ne (tgt := 25) hx hb dX1_wireAt_14 (by decide) (fun hc4 => ?_) (fun hc4 => ?_)
  · have hs := ww_F hs hc4
    refine lv_aload_n hx hb dX1_wireAt_25 rfl (lv_at hl 0 rfl) ?_
    refine gf_X1_78 hx hb hts hown hW (pr_st (hW.rd hgm) (Nat.le_of_ble_eq_true rfl)) (hW.fl hgm (pr_st (hW.rd hgm) (Nat.le_of_ble_eq_true rfl)) 8 (by decide) rfl (by decide)) dX1_wireAt_26 ?_
    refine lv_iload_n hx hb dX1_wireAt_29 rfl (lv_at hl 1 rfl) ?_
    obtain ⟨hc5, hs⟩ := ww_chk hs
    refine ww_cr (va_runV (As := [.int a1]) (rest := []) ⟨hx, hb, hml, hown, hts⟩ (c_AL_get g hgm l L σ 74 0 75 85 a1 rfl rfl rfl (pr_st (hW.rd hgm) (Nat.le_of_ble_eq_true rfl)) hc5) (cwV 1 hts (lw_V q518 q519 q520 q117 q521) rfl rfl rfl hd_J2_get ⟨(Nat.le_of_ble_eq_true rfl), (Nat.le_of_ble_eq_true rfl)⟩) (ww_preV hW (pr_st (hW.rd hgm) (Nat.le_of_ble_eq_true rfl)) (obv_0 rfl) rfl) rfl rfl hl.1 rfl (lv_room (Nat.le_of_ble_eq_true rfl)) dX1_wireAt_30 ⟨Nat.zero_le _, Nat.zero_le _⟩) hW (fun H locs hW => ?_)
    obtain ⟨hc6, hs⟩ := ww_chk hs
    refine ww_castS hx hb hown (hts _ q1535) hW (pr_dy hc6 rfl rfl) (obv_0 rfl) rfl dX1_wireAt_33 ?_
    have hs := ww_S hs
    exact wx_r hx hb hr hlocks hW hs rfl (Nat.zero_le _) (Nat.zero_le _) dX1_wireAt_36
  · have hs := ww_T hs hc4
    have hs := ww_S hs
    exact th_X1_3 hx hb hlocks hown hts hml hl.1 hout hst hW hs rfl dX1_wireAt_17 dX1_wireAt_20 dX1_wireAt_21 dX1_wireAt_24 (Nat.le_of_ble_eq_true rfl) (Nat.le_of_ble_eq_true rfl) rfl rfl
set_option maxHeartbeats 4000000 in
theorem c_X1_tripAt (g : wg_T) (hgm : gm g = true) (l : Launch) (L : ly_T) (σ : st_T) (a1 : Int32) (hst : l.stackTraces = false) (o_ : Nat ⊕ Nat) (hs : m_X1_tripAt σ a1 = some o_) : XR g l yX1_tripAt (ws_ yX1_tripAt cX1_tripAt 2 (some (.object "ElephantEdge$Trip"))) 8 150 (xc o_) (xs o_) [.ref (L 1 0), .int a1] L σ 86 o_ σ := by
  refine xbody.met (by decide) (Nat.le_of_ble_eq_true rfl) ?_
  intro p e s m args below meth c ls hx hb hr hml hlocks hts hown hnm hout hW hl
  have hown : s.vm.findClass RX1 = some m.cls := hown
  have hl : lv_has ls 2 [(0, .ref (L 1 0)), (1, .int a1)] := hl
  unfold m_X1_tripAt at hs
  refine lv_iload_n hx hb dX1_tripAt_0 rfl (lv_at hl 1 rfl) ?_
  refine lv_iconst (v := 0) hx hb dX1_tripAt_1 (by decide) ?_
  refine lv_aload_n hx hb dX1_tripAt_2 rfl (lv_at hl 0 rfl) ?_
  refine gf_X1_81 hx hb hts hown hW (pr_st (hW.rd hgm) (Nat.le_of_ble_eq_true rfl)) (hW.fl hgm (pr_st (hW.rd hgm) (Nat.le_of_ble_eq_true rfl)) 9 (by decide) rfl (by decide)) dX1_tripAt_3 ?_
  refine ww_ci (va_runV (As := []) (rest := [.int (0 : Int32), .int a1]) ⟨hx, hb, hml, hown, hts⟩ (c_AL_size g hgm l L σ 76 0 77 rfl rfl (pr_st (hW.rd hgm) (Nat.le_of_ble_eq_true rfl))) (cwV 0 hts (lw_V q514 q515 q516 q117 q517) rfl rfl rfl hd_J2_size ⟨(Nat.le_of_ble_eq_true rfl), (Nat.le_of_ble_eq_true rfl)⟩) (ww_preV hW (pr_st (hW.rd hgm) (Nat.le_of_ble_eq_true rfl)) (obv_0 rfl) rfl) rfl rfl hl.1 rfl (lv_room (Nat.le_of_ble_eq_true rfl)) dX1_tripAt_6 ⟨Nat.zero_le _, Nat.zero_le _⟩) hW (fun H locs hW => ?_)
  refine lv_iconst (v := 1) hx hb dX1_tripAt_9 (by decide) ?_
  refine lv_isub hx hb dX1_tripAt_10 ?_
  obtain ⟨v3, hc1, hs⟩ := ww_bnd hs
  refine ww_ci (va_runS (As := [.int a1, .int (0 : Int32), .int ((gF_ σ 76 2 0) - (1 : Int32))]) (rest := []) ⟨hx, hb, hml, hown, hts⟩ (c_X1_in g hgm l L σ a1 (0 : Int32) ((gF_ σ 76 2 0) - (1 : Int32)) _ hc1) (va_cwS 3 hts (lw_S q824 q825 q111 q826) rfl rfl rfl hd_X1_in.2 ⟨(Nat.le_of_ble_eq_true rfl), (Nat.le_of_ble_eq_true rfl)⟩) (ww_preS hW) rfl rfl hl.1 rfl (lv_room (Nat.le_of_ble_eq_true rfl)) dX1_tripAt_11 ⟨Nat.le_of_ble_eq_true rfl, Nat.le_of_ble_eq_true rfl⟩) hW (fun H locs hW => ?_)
  refine lv_if_ne (tgt := 25) hx hb dX1_tripAt_14 (by decide) (fun hc4 => ?_) (fun hc4 => ?_)
  · have hs := ww_F hs hc4
    refine lv_aload_n hx hb dX1_tripAt_25 rfl (lv_at hl 0 rfl) ?_
    refine gf_X1_81 hx hb hts hown hW (pr_st (hW.rd hgm) (Nat.le_of_ble_eq_true rfl)) (hW.fl hgm (pr_st (hW.rd hgm) (Nat.le_of_ble_eq_true rfl)) 9 (by decide) rfl (by decide)) dX1_tripAt_26 ?_
    refine lv_iload_n hx hb dX1_tripAt_29 rfl (lv_at hl 1 rfl) ?_
    obtain ⟨hc5, hs⟩ := ww_chk hs
    refine ww_cr (va_runV (As := [.int a1]) (rest := []) ⟨hx, hb, hml, hown, hts⟩ (c_AL_get g hgm l L σ 76 0 77 86 a1 rfl rfl rfl (pr_st (hW.rd hgm) (Nat.le_of_ble_eq_true rfl)) hc5) (cwV 1 hts (lw_V q518 q519 q520 q117 q521) rfl rfl rfl hd_J2_get ⟨(Nat.le_of_ble_eq_true rfl), (Nat.le_of_ble_eq_true rfl)⟩) (ww_preV hW (pr_st (hW.rd hgm) (Nat.le_of_ble_eq_true rfl)) (obv_0 rfl) rfl) rfl rfl hl.1 rfl (lv_room (Nat.le_of_ble_eq_true rfl)) dX1_tripAt_30 ⟨Nat.zero_le _, Nat.zero_le _⟩) hW (fun H locs hW => ?_)
    obtain ⟨hc6, hs⟩ := ww_chk hs
    refine ww_castS hx hb hown (hts _ q1576) hW (pr_dy hc6 rfl rfl) (obv_0 rfl) rfl dX1_tripAt_33 ?_
    have hs := ww_S hs
    exact wx_r hx hb hr hlocks hW hs rfl (Nat.zero_le _) (Nat.zero_le _) dX1_tripAt_36
  · have hs := ww_T hs hc4
    have hs := ww_S hs
    exact th_X1_3 hx hb hlocks hown hts hml hl.1 hout hst hW hs rfl dX1_tripAt_17 dX1_tripAt_20 dX1_tripAt_21 dX1_tripAt_24 (Nat.le_of_ble_eq_true rfl) (Nat.le_of_ble_eq_true rfl) rfl rfl
set_option maxHeartbeats 4000000 in
theorem c_X1_apart (g : wg_T) (hgm : gm g = true) (l : Launch) (L : ly_T) (σ : st_T) (a1 : Int32) (a2 : Int32) (r_ : Int32) (hs : m_X1_apart a1 a2 = some r_) : CI g l yX1_apart (ws_ yX1_apart cX1_apart 2 (some .int)) 2 60 0 0 [.int a1, .int a2] L σ r_ σ := by
  refine wbody.met (by decide) (Nat.le_of_ble_eq_true rfl) ?_
  intro p e s m args below meth c ls hx hb hr hml hlocks hts hown hnm hW hl
  have hown : s.vm.findClass RX1 = some m.cls := hown
  have hl : lv_has ls 2 [(0, .int a1), (1, .int a2)] := hl
  unfold m_X1_apart at hs
  refine lv_iload_n hx hb dX1_apart_0 rfl (lv_at hl 0 rfl) ?_
  refine lv_bipush (v := 8) hx hb dX1_apart_1 (by decide) ?_
  refine lv_irem hx hb dX1_apart_3 (by decide) ?_
  refine lv_iload_n hx hb dX1_apart_4 rfl (lv_at hl 1 rfl) ?_
  refine lv_bipush (v := 8) hx hb dX1_apart_5 (by decide) ?_
  refine lv_irem hx hb dX1_apart_7 (by decide) ?_
  refine lv_isub hx hb dX1_apart_8 ?_
  refine va_mabs hx hb (hml.trans hl.1.symm) hown (hts _ q1623) (hts _ q560) (hts _ q134) (hts _ q561) (Nat.le_of_ble_eq_true rfl) (Nat.le_of_ble_eq_true rfl) (Nat.le_of_ble_eq_true rfl) (Nat.le_of_ble_eq_true rfl) dX1_apart_9 ?_
  refine lv_iload_n hx hb dX1_apart_12 rfl (lv_at hl 0 rfl) ?_
  refine lv_bipush (v := 8) hx hb dX1_apart_13 (by decide) ?_
  refine lv_idiv hx hb dX1_apart_15 (by decide) ?_
  refine lv_iload_n hx hb dX1_apart_16 rfl (lv_at hl 1 rfl) ?_
  refine lv_bipush (v := 8) hx hb dX1_apart_17 (by decide) ?_
  refine lv_idiv hx hb dX1_apart_19 (by decide) ?_
  refine lv_isub hx hb dX1_apart_20 ?_
  refine va_mabs hx hb (hml.trans hl.1.symm) hown (hts _ q1623) (hts _ q560) (hts _ q134) (hts _ q561) (Nat.le_of_ble_eq_true rfl) (Nat.le_of_ble_eq_true rfl) (Nat.le_of_ble_eq_true rfl) (Nat.le_of_ble_eq_true rfl) dX1_apart_21 ?_
  refine lv_iadd hx hb dX1_apart_24 ?_
  have hs := ww_S hs
  exact we_i hx hb hr hlocks hW hs rfl (Nat.le_of_ble_eq_true rfl) (Nat.le_of_ble_eq_true rfl) dX1_apart_25
set_option maxHeartbeats 4000000 in
theorem c_X1_weight (g : wg_T) (hgm : gm g = true) (l : Launch) (L : ly_T) (σ : st_T) (a1 : Int32) (r_ : Int32) (hs : m_X1_weight σ a1 = some r_) : CI g l yX1_weight (ws_ yX1_weight cX1_weight 2 (some .int)) 2 60 0 0 [.ref (L 1 0), .int a1] L σ r_ σ := by
  refine wbody.met (by decide) (Nat.le_of_ble_eq_true rfl) ?_
  intro p e s m args below meth c ls hx hb hr hml hlocks hts hown hnm hW hl
  have hown : s.vm.findClass RX1 = some m.cls := hown
  have hl : lv_has ls 2 [(0, .ref (L 1 0)), (1, .int a1)] := hl
  unfold m_X1_weight at hs
  have hL26 : ∀ (σ : st_T) (t0 : Int32) (H : Heap) (locs : List Loc) (ls : Array Slot), wv g L σ s H locs → lv_has ls 2 [] → m_X1_weight_L26 σ t0 = some r_ → W p l e (wrm 2 60 0 0) s m args below meth c H locs 0 0 (MQ below (wQi g L r_ σ) args s 0 0 (fun q => gz g ≤ q)) (F0 m 26 ls [.int t0]) := by
    intro σ t0 H locs ls hW hl hs
    unfold m_X1_weight_L26 at hs
    have hs := ww_S hs
    exact we_i hx hb hr hlocks hW hs rfl (Nat.le_of_ble_eq_true rfl) (Nat.le_of_ble_eq_true rfl) dX1_weight_26
  refine lv_aload_n hx hb dX1_weight_0 rfl (lv_at hl 0 rfl) ?_
  refine gf_X1_137 hx hb hts hown hW (pr_st (hW.rd hgm) (Nat.le_of_ble_eq_true rfl)) (hW.fl hgm (pr_st (hW.rd hgm) (Nat.le_of_ble_eq_true rfl)) 27 (by decide) rfl (by decide)) dX1_weight_1 ?_
  refine lv_iload_n hx hb dX1_weight_4 rfl (lv_at hl 1 rfl) ?_
  obtain ⟨hc1, hs⟩ := ww_chk hs
  refine ww_zald hx hb hW 37 0 (pr_st (hW.rd hgm) (Nat.le_of_ble_eq_true rfl)) rfl hc1 dX1_weight_5 ?_
  refine lv_if_eq (tgt := 13) hx hb dX1_weight_6 (by decide) (fun hc2 => ?_) (fun hc2 => ?_)
  · have hs := ww_T hs hc2
    refine lv_sipush (v := 10000) hx hb dX1_weight_13 (by decide) ?_
    refine lv_aload_n hx hb dX1_weight_16 rfl (lv_at hl 0 rfl) ?_
    refine gf_X1_103 hx hb hts hown hW (pr_st (hW.rd hgm) (Nat.le_of_ble_eq_true rfl)) (hW.fl hgm (pr_st (hW.rd hgm) (Nat.le_of_ble_eq_true rfl)) 16 (by decide) rfl (by decide)) dX1_weight_17 ?_
    refine lv_iload_n hx hb dX1_weight_20 rfl (lv_at hl 1 rfl) ?_
    refine ww_iald hx hb hW 26 0 (pr_st (hW.rd hgm) (Nat.le_of_ble_eq_true rfl)) rfl hc1 dX1_weight_21 ?_
    refine lv_imul hx hb dX1_weight_22 ?_
    refine lv_bipush (v := 101) hx hb dX1_weight_23 (by decide) ?_
    refine lv_iadd hx hb dX1_weight_25 ?_
    exact hL26 σ (((10000 : Int32) * (gA_ σ 26 0 a1.toNatClampNeg)) + (101 : Int32)) _ _ ls hW (lv_sub hl [] rfl) hs
  · have hs := ww_F hs hc2
    refine lv_iconst (v := 1) hx hb dX1_weight_9 (by decide) ?_
    refine lv_goto (tgt := 26) hx hb dX1_weight_10 (by decide) ?_
    exact hL26 σ (1 : Int32) _ _ ls hW (lv_sub hl [] rfl) hs
set_option maxHeartbeats 4000000 in
theorem c_X14_of (g : wg_T) (hgm : gm g = true) (l : Launch) (L : ly_T) (σ : st_T) (i0 : Nat) (a1 : Int32) (a2 : Int32) (r_ : Int32) (hs : m_X14_of i0 a1 a2 = some r_) : CI g l yX14_of (ws_ yX14_of cX14_of 3 (some .int)) 2 60 0 0 [.ref (L 91 i0), .int a1, .int a2] L σ r_ σ := by
  refine wbody.met (by decide) (Nat.le_of_ble_eq_true rfl) ?_
  intro p e s m args below meth c ls hx hb hr hml hlocks hts hown hnm hW hl
  have hown : s.vm.findClass RX14 = some m.cls := hown
  have hl : lv_has ls 3 [(0, .ref (L 91 i0)), (1, .int a1), (2, .int a2)] := hl
  unfold m_X14_of at hs
  refine lv_iload_n hx hb dX14_of_0 rfl (lv_at hl 1 rfl) ?_
  refine lv_iload_n hx hb dX14_of_1 rfl (lv_at hl 2 rfl) ?_
  refine va_mmin hx hb (hml.trans hl.1.symm) hown (hts _ q1471) (hts _ q505) (hts _ q134) (hts _ q506) (Nat.le_of_ble_eq_true rfl) (Nat.le_of_ble_eq_true rfl) (Nat.le_of_ble_eq_true rfl) (Nat.le_of_ble_eq_true rfl) dX14_of_2 ?_
  have hs := ww_S hs
  exact we_i hx hb hr hlocks hW hs rfl (Nat.le_of_ble_eq_true rfl) (Nat.le_of_ble_eq_true rfl) dX14_of_5
set_option maxHeartbeats 4000000 in
theorem c_X15_of (g : wg_T) (hgm : gm g = true) (l : Launch) (L : ly_T) (σ : st_T) (i0 : Nat) (a1 : Int32) (a2 : Int32) (r_ : Int32) (hs : m_X15_of i0 a1 a2 = some r_) : CI g l yX15_of (ws_ yX15_of cX15_of 3 (some .int)) 2 60 0 0 [.ref (L 91 i0), .int a1, .int a2] L σ r_ σ := by
  refine wbody.met (by decide) (Nat.le_of_ble_eq_true rfl) ?_
  intro p e s m args below meth c ls hx hb hr hml hlocks hts hown hnm hW hl
  have hown : s.vm.findClass RX15 = some m.cls := hown
  have hl : lv_has ls 3 [(0, .ref (L 91 i0)), (1, .int a1), (2, .int a2)] := hl
  unfold m_X15_of at hs
  refine lv_iload_n hx hb dX15_of_0 rfl (lv_at hl 1 rfl) ?_
  refine lv_iload_n hx hb dX15_of_1 rfl (lv_at hl 2 rfl) ?_
  refine va_mmax hx hb (hml.trans hl.1.symm) hown (hts _ q1475) (hts _ q604) (hts _ q134) (hts _ q605) (Nat.le_of_ble_eq_true rfl) (Nat.le_of_ble_eq_true rfl) (Nat.le_of_ble_eq_true rfl) (Nat.le_of_ble_eq_true rfl) dX15_of_2 ?_
  have hs := ww_S hs
  exact we_i hx hb hr hlocks hW hs rfl (Nat.le_of_ble_eq_true rfl) (Nat.le_of_ble_eq_true rfl) dX15_of_5
set_option maxHeartbeats 4000000 in
theorem c_X17_known (g : wg_T) (hgm : gm g = true) (l : Launch) (L : ly_T) (σ : st_T) (i0 : Nat) (a1 : Int32) (r_ : Int32) (hs : m_X17_known σ i0 a1 = some r_) : CI g l yX17_known (ws_ yX17_known cX17_known 4 (some .int)) 5 150 0 0 [.ref (L 83 i0), .int a1] L σ r_ σ := by
  refine wbody.met (by decide) (Nat.le_of_ble_eq_true rfl) ?_
  intro p e s m args below meth c ls hx hb hr hml hlocks hts hown hnm hW hl
  have hown : s.vm.findClass RX17 = some m.cls := hown
  have hl : lv_has ls 4 [(0, .ref (L 83 i0)), (1, .int a1)] := hl
  unfold m_X17_known at hs
  have hL4 : ∀ (n4 : Nat), ∀ (σ : st_T) (x1 : Int32) (x2 : Int32) (x3 : Int32) (H : Heap) (locs : List Loc) (ls : Array Slot), wv g L σ s H locs → lv_has ls 4 [(0, .ref (L 83 i0)), (1, .int x1), (2, .int x2), (3, .int x3)] → (m_X17_known_L4 i0 n4) σ x1 x2 x3 = some r_ → W p l e (wrm 5 150 0 0) s m args below meth c H locs 0 0 (MQ below (wQi g L r_ σ) args s 0 0 (fun q => gz g ≤ q)) (F0 m 4 ls []) := by
    intro n4
    induction n4 with
    | zero => intro σ x1 x2 x3 H locs ls hW hl hs; rw [m_X17_known_L4] at hs; cases hs
    | succ n4 ih4 =>
      have hL51 : ∀ (σ : st_T) (x1 : Int32) (x3 : Int32) (t0 : Int32) (H : Heap) (locs : List Loc) (ls : Array Slot), wv g L σ s H locs → lv_has ls 4 [(0, .ref (L 83 i0)), (1, .int x1), (3, .int x3)] → (m_X17_known_L51 i0 (m_X17_known_L4 i0 n4)) σ x1 x3 t0 = some r_ → W p l e (wrm 5 150 0 0) s m args below meth c H locs 0 0 (MQ below (wQi g L r_ σ) args s 0 0 (fun q => gz g ≤ q)) (F0 m 51 ls [.int t0]) := by
        intro σ x1 x3 t0 H locs ls hW hl hs
        unfold m_X17_known_L51 at hs
        refine lv_istore_n (lv' := [(2, .int t0), (0, .ref (L 83 i0)), (1, .int x1), (3, .int x3)]) hx hb dX17_known_51 rfl hl (by decide) rfl (fun ls hl => ?_)
        refine lv_iinc (v := (x3 + (1 : Int32))) (lv' := [(3, .int (x3 + (1 : Int32))), (2, .int t0), (0, .ref (L 83 i0)), (1, .int x1)]) hx hb dX17_known_52 hl (k := 3) rfl rfl (by decide) rfl (fun ls hl => ?_)
        refine lv_goto (tgt := 4) hx hb dX17_known_55 (by decide) ?_
        exact ih4 σ x1 t0 (x3 + (1 : Int32)) _ _ ls hW (lv_sub hl [2, 3, 1, 0] rfl) hs
      intro σ x1 x2 x3 H locs ls hW hl hs
      rw [m_X17_known_L4] at hs
      refine lv_iload_n hx hb dX17_known_4 rfl (lv_at hl 3 rfl) ?_
      refine lv_aload_n hx hb dX17_known_5 rfl (lv_at hl 0 rfl) ?_
      obtain ⟨hc1, hs⟩ := ww_chk hs
      refine gf_X17_12 hx hb hts hown hW (pr_dy hc1 rfl rfl) (hW.fl hgm (pr_dy hc1 rfl rfl) 2 (by decide) rfl (by decide)) dX17_known_6 ?_
      obtain ⟨hc2, hs⟩ := ww_chk hs
      refine ww_ci (va_runV (As := []) (rest := [.int x3]) ⟨hx, hb, hml, hown, hts⟩ (c_AL_size g hgm l L σ 78 i0 79 rfl rfl (pr_dy hc2 rfl rfl)) (cwV 0 hts (lw_V q1400 q515 q516 q117 q517) rfl rfl rfl hd_J2_size ⟨(Nat.le_of_ble_eq_true rfl), (Nat.le_of_ble_eq_true rfl)⟩) (ww_preV hW (pr_dy hc2 rfl rfl) (obv_0 rfl) rfl) rfl rfl hl.1 rfl (lv_room (Nat.le_of_ble_eq_true rfl)) dX17_known_9 ⟨Nat.zero_le _, Nat.zero_le _⟩) hW (fun H locs hW => ?_)
      refine lv_icmp_ge (tgt := 58) hx hb dX17_known_12 (by decide) (fun hc3 => ?_) (fun hc3 => ?_)
      · have hs := ww_T hs hc3
        refine lv_iload_n hx hb dX17_known_58 rfl (lv_at hl 2 rfl) ?_
        have hs := ww_S hs
        exact we_i hx hb hr hlocks hW hs rfl (Nat.le_of_ble_eq_true rfl) (Nat.le_of_ble_eq_true rfl) dX17_known_59
      · have hs := ww_F hs hc3
        refine lv_aload_n hx hb dX17_known_15 rfl (lv_at hl 0 rfl) ?_
        refine gf_X17_12 hx hb hts hown hW (pr_dy hc1 rfl rfl) (hW.fl hgm (pr_dy hc1 rfl rfl) 2 (by decide) rfl (by decide)) dX17_known_16 ?_
        refine lv_iload_n hx hb dX17_known_19 rfl (lv_at hl 3 rfl) ?_
        obtain ⟨hc4, hs⟩ := ww_chk hs
        refine ww_cr (va_runV (As := [.int x3]) (rest := []) ⟨hx, hb, hml, hown, hts⟩ (c_AL_get g hgm l L σ 78 i0 79 84 x3 rfl rfl rfl (pr_dy hc2 rfl rfl) hc4) (cwV 1 hts (lw_V q1401 q519 q520 q117 q521) rfl rfl rfl hd_J2_get ⟨(Nat.le_of_ble_eq_true rfl), (Nat.le_of_ble_eq_true rfl)⟩) (ww_preV hW (pr_dy hc2 rfl rfl) (obv_0 rfl) rfl) rfl rfl hl.1 rfl (lv_room (Nat.le_of_ble_eq_true rfl)) dX17_known_20 ⟨Nat.zero_le _, Nat.zero_le _⟩) hW (fun H locs hW => ?_)
        obtain ⟨hc5, hs⟩ := ww_chk hs
        refine ww_castS hx hb hown (hts _ q614) hW (pr_dy hc5 rfl rfl) (obv_0 rfl) rfl dX17_known_23 ?_
        refine gf_X17_48 hx hb hts hown hW (pr_dy hc5 rfl rfl) dX17_known_26 ?_
        refine lv_iload_n hx hb dX17_known_29 rfl (lv_at hl 1 rfl) ?_
        refine lv_icmp_gt (tgt := 50) hx hb dX17_known_30 (by decide) (fun hc6 => ?_) (fun hc6 => ?_)
        · have hs := ww_T hs hc6
          refine lv_iload_n hx hb dX17_known_50 rfl (lv_at hl 2 rfl) ?_
          exact hL51 σ x1 x3 x2 _ _ ls hW (lv_sub hl [0, 1, 3] rfl) hs
        · have hs := ww_F hs hc6
          refine lv_aload_n hx hb dX17_known_33 rfl (lv_at hl 0 rfl) ?_
          refine gf_X17_12 hx hb hts hown hW (pr_dy hc1 rfl rfl) (hW.fl hgm (pr_dy hc1 rfl rfl) 2 (by decide) rfl (by decide)) dX17_known_34 ?_
          refine lv_iload_n hx hb dX17_known_37 rfl (lv_at hl 3 rfl) ?_
          obtain ⟨hc7, hs⟩ := ww_chk hs
          refine ww_cr (va_runV (As := [.int x3]) (rest := []) ⟨hx, hb, hml, hown, hts⟩ (c_AL_get g hgm l L σ 78 i0 79 84 x3 rfl rfl rfl (pr_dy hc2 rfl rfl) hc7) (cwV 1 hts (lw_V q1401 q519 q520 q117 q521) rfl rfl rfl hd_J2_get ⟨(Nat.le_of_ble_eq_true rfl), (Nat.le_of_ble_eq_true rfl)⟩) (ww_preV hW (pr_dy hc2 rfl rfl) (obv_0 rfl) rfl) rfl rfl hl.1 rfl (lv_room (Nat.le_of_ble_eq_true rfl)) dX17_known_38 ⟨Nat.zero_le _, Nat.zero_le _⟩) hW (fun H locs hW => ?_)
          refine ww_castS hx hb hown (hts _ q614) hW (pr_dy hc5 rfl rfl) (obv_0 rfl) rfl dX17_known_41 ?_
          refine gf_X17_45 hx hb hts hown hW (pr_dy hc5 rfl rfl) dX17_known_44 ?_
          refine lv_goto (tgt := 51) hx hb dX17_known_47 (by decide) ?_
          exact hL51 σ x1 x3 (gF_ σ 84 1 (gP_ σ 79 (2 + x3.toNatClampNeg) i0)) _ _ ls hW (lv_sub hl [0, 1, 3] rfl) hs
  refine lv_iconst (v := 0) hx hb dX17_known_0 (by decide) ?_
  refine lv_istore_n (lv' := [(2, .int (0 : Int32)), (0, .ref (L 83 i0)), (1, .int a1)]) hx hb dX17_known_1 rfl hl (by decide) rfl (fun ls hl => ?_)
  refine lv_iconst (v := 0) hx hb dX17_known_2 (by decide) ?_
  refine lv_istore_n (lv' := [(3, .int (0 : Int32)), (2, .int (0 : Int32)), (0, .ref (L 83 i0)), (1, .int a1)]) hx hb dX17_known_3 rfl hl (by decide) rfl (fun ls hl => ?_)
  exact hL4 fu_ σ a1 (0 : Int32) (0 : Int32) _ _ ls hW (lv_sub hl [2, 3, 1, 0] rfl) hs
set_option maxHeartbeats 4000000 in
theorem c_X17_latest (g : wg_T) (hgm : gm g = true) (l : Launch) (L : ly_T) (σ : st_T) (i0 : Nat) (r_ : Int32) (hs : m_X17_latest σ i0 = some r_) : CI g l yX17_latest (ws_ yX17_latest cX17_latest 1 (some .int)) 5 150 0 0 [.ref (L 83 i0)] L σ r_ σ := by
  refine wbody.met (by decide) (Nat.le_of_ble_eq_true rfl) ?_
  intro p e s m args below meth c ls hx hb hr hml hlocks hts hown hnm hW hl
  have hown : s.vm.findClass RX17 = some m.cls := hown
  have hl : lv_has ls 1 [(0, .ref (L 83 i0))] := hl
  unfold m_X17_latest at hs
  refine lv_aload_n hx hb dX17_latest_0 rfl (lv_at hl 0 rfl) ?_
  obtain ⟨hc1, hs⟩ := ww_chk hs
  refine gf_X17_12 hx hb hts hown hW (pr_dy hc1 rfl rfl) (hW.fl hgm (pr_dy hc1 rfl rfl) 2 (by decide) rfl (by decide)) dX17_latest_1 ?_
  refine lv_aload_n hx hb dX17_latest_4 rfl (lv_at hl 0 rfl) ?_
  refine gf_X17_12 hx hb hts hown hW (pr_dy hc1 rfl rfl) (hW.fl hgm (pr_dy hc1 rfl rfl) 2 (by decide) rfl (by decide)) dX17_latest_5 ?_
  obtain ⟨hc2, hs⟩ := ww_chk hs
  refine ww_ci (va_runV (As := []) (rest := [.ref (L 78 i0)]) ⟨hx, hb, hml, hown, hts⟩ (c_AL_size g hgm l L σ 78 i0 79 rfl rfl (pr_dy hc2 rfl rfl)) (cwV 0 hts (lw_V q1400 q515 q516 q117 q517) rfl rfl rfl hd_J2_size ⟨(Nat.le_of_ble_eq_true rfl), (Nat.le_of_ble_eq_true rfl)⟩) (ww_preV hW (pr_dy hc2 rfl rfl) (obv_0 rfl) rfl) rfl rfl hl.1 rfl (lv_room (Nat.le_of_ble_eq_true rfl)) dX17_latest_8 ⟨Nat.zero_le _, Nat.zero_le _⟩) hW (fun H locs hW => ?_)
  refine lv_iconst (v := 1) hx hb dX17_latest_11 (by decide) ?_
  refine lv_isub hx hb dX17_latest_12 ?_
  obtain ⟨hc3, hs⟩ := ww_chk hs
  refine ww_cr (va_runV (As := [.int ((gF_ σ 78 2 i0) - (1 : Int32))]) (rest := []) ⟨hx, hb, hml, hown, hts⟩ (c_AL_get g hgm l L σ 78 i0 79 84 ((gF_ σ 78 2 i0) - (1 : Int32)) rfl rfl rfl (pr_dy hc2 rfl rfl) hc3) (cwV 1 hts (lw_V q1401 q519 q520 q117 q521) rfl rfl rfl hd_J2_get ⟨(Nat.le_of_ble_eq_true rfl), (Nat.le_of_ble_eq_true rfl)⟩) (ww_preV hW (pr_dy hc2 rfl rfl) (obv_0 rfl) rfl) rfl rfl hl.1 rfl (lv_room (Nat.le_of_ble_eq_true rfl)) dX17_latest_13 ⟨Nat.zero_le _, Nat.zero_le _⟩) hW (fun H locs hW => ?_)
  obtain ⟨hc4, hs⟩ := ww_chk hs
  refine ww_castS hx hb hown (hts _ q614) hW (pr_dy hc4 rfl rfl) (obv_0 rfl) rfl dX17_latest_16 ?_
  refine gf_X17_45 hx hb hts hown hW (pr_dy hc4 rfl rfl) dX17_latest_19 ?_
  have hs := ww_S hs
  exact we_i hx hb hr hlocks hW hs rfl (Nat.le_of_ble_eq_true rfl) (Nat.le_of_ble_eq_true rfl) dX17_latest_22
set_option maxHeartbeats 4000000 in
theorem c_X19_isBetter (g : wg_T) (hgm : gm g = true) (l : Launch) (L : ly_T) (σ : st_T) (i0 : Nat) (r_ : Int32) (σ_ : st_T) (hs : m_X19_isBetter σ i0 = some (r_, σ_)) : CI g l yX19_isBetter (ws_ yX19_isBetter cX19_isBetter 4 (some .boolean)) 2 60 0 0 [.ref (L 92 i0)] L σ r_ σ_ := by
  refine wbody.met (by decide) (Nat.le_of_ble_eq_true rfl) ?_
  intro p e s m args below meth c ls hx hb hr hml hlocks hts hown hnm hW hl
  have hown : s.vm.findClass RX19 = some m.cls := hown
  have hl : lv_has ls 4 [(0, .ref (L 92 i0))] := hl
  unfold m_X19_isBetter at hs
  have hL6 : ∀ (n6 : Nat), ∀ (σ : st_T) (x1 : Int32) (x2 : Int32) (x3 : Int32) (H : Heap) (locs : List Loc) (ls : Array Slot), wv g L σ s H locs → lv_has ls 4 [(0, .ref (L 92 i0)), (1, .int x1), (2, .int x2), (3, .int x3)] → (m_X19_isBetter_L6 i0 n6) σ x1 x2 x3 = some (r_, σ_) → W p l e (wrm 2 60 0 0) s m args below meth c H locs 0 0 (MQ below (wQi g L r_ σ_) args s 0 0 (fun q => gz g ≤ q)) (F0 m 6 ls []) := by
    intro n6
    induction n6 with
    | zero => intro σ x1 x2 x3 H locs ls hW hl hs; rw [m_X19_isBetter_L6] at hs; cases hs
    | succ n6 ih6 =>
      have hL86 : ∀ (σ : st_T) (x1 : Int32) (x2 : Int32) (H : Heap) (locs : List Loc) (ls : Array Slot), wv g L σ s H locs → lv_has ls 4 [(0, .ref (L 92 i0)), (1, .int x1), (2, .int x2)] → (m_X19_isBetter_L86 i0) σ x1 x2 = some (r_, σ_) → W p l e (wrm 2 60 0 0) s m args below meth c H locs 0 0 (MQ below (wQi g L r_ σ_) args s 0 0 (fun q => gz g ≤ q)) (F0 m 86 ls []) := by
        have hL103 : ∀ (σ : st_T)  (H : Heap) (locs : List Loc) (ls : Array Slot), wv g L σ s H locs → lv_has ls 4 [] → (m_X19_isBetter_L103 i0) σ = some (r_, σ_) → W p l e (wrm 2 60 0 0) s m args below meth c H locs 0 0 (MQ below (wQi g L r_ σ_) args s 0 0 (fun q => gz g ≤ q)) (F0 m 103 ls []) := by
          intro σ H locs ls hW hl hs
          unfold m_X19_isBetter_L103 at hs
          refine lv_iconst (v := 1) hx hb dX19_isBetter_103 (by decide) ?_
          have hs := ww_S hs
          exact we_z hx hb hr hlocks hW (Or.inr rfl) (congrArg Prod.fst hs) (congrArg Prod.snd hs) (Nat.le_of_ble_eq_true rfl) (Nat.le_of_ble_eq_true rfl) dX19_isBetter_104
        intro σ x1 x2 H locs ls hW hl hs
        unfold m_X19_isBetter_L86 at hs
        refine lv_aload_n hx hb dX19_isBetter_86 rfl (lv_at hl 0 rfl) ?_
        obtain ⟨hc1, hs⟩ := ww_chk hs
        refine gf_X19_59 hx hb hts hown hW (pr_dy hc1 rfl rfl) dX19_isBetter_87 ?_
        refine lv_if_eq (tgt := 103) hx hb dX19_isBetter_90 (by decide) (fun hc2 => ?_) (fun hc2 => ?_)
        · have hs := ww_T hs hc2
          exact hL103 σ _ _ ls hW (lv_sub hl [] rfl) hs
        · have hs := ww_F hs hc2
          refine lv_aload_n hx hb dX19_isBetter_93 rfl (lv_at hl 0 rfl) ?_
          refine lv_iload_n hx hb dX19_isBetter_94 rfl (lv_at hl 1 rfl) ?_
          obtain ⟨σ3, e4, hs⟩ := ww_let hs
          refine pf_X19_20 hx hb hts hown hW (pr_dy hc1 rfl rfl) dX19_isBetter_95 (fun H locs hW => ?_)
          have hW : wv g L σ3 s H locs := by rw [e4]; exact hW
          have hc5 : i0 < gN_ σ3 92 := by rw [e4]; exact hc1
          refine lv_aload_n hx hb dX19_isBetter_98 rfl (lv_at hl 0 rfl) ?_
          refine lv_iload_n hx hb dX19_isBetter_99 rfl (lv_at hl 2 rfl) ?_
          obtain ⟨σ6, e7, hs⟩ := ww_let hs
          refine pf_X19_24 hx hb hts hown hW (pr_dy hc5 rfl rfl) dX19_isBetter_100 (fun H locs hW => ?_)
          have hW : wv g L σ6 s H locs := by rw [e7]; exact hW
          have hc8 : i0 < gN_ σ6 92 := by rw [e7]; exact hc5
          exact hL103 σ6 _ _ ls hW (lv_sub hl [] rfl) hs
      have hL84 : ∀ (σ : st_T)  (H : Heap) (locs : List Loc) (ls : Array Slot), wv g L σ s H locs → lv_has ls 4 [] → (m_X19_isBetter_L84 i0) σ = some (r_, σ_) → W p l e (wrm 2 60 0 0) s m args below meth c H locs 0 0 (MQ below (wQi g L r_ σ_) args s 0 0 (fun q => gz g ≤ q)) (F0 m 84 ls []) := by
        intro σ H locs ls hW hl hs
        unfold m_X19_isBetter_L84 at hs
        refine lv_iconst (v := 0) hx hb dX19_isBetter_84 (by decide) ?_
        have hs := ww_S hs
        exact we_z hx hb hr hlocks hW (Or.inl rfl) (congrArg Prod.fst hs) (congrArg Prod.snd hs) (Nat.le_of_ble_eq_true rfl) (Nat.le_of_ble_eq_true rfl) dX19_isBetter_85
      have hL54 : ∀ (σ : st_T) (x1 : Int32) (x2 : Int32) (x3 : Int32) (H : Heap) (locs : List Loc) (ls : Array Slot), wv g L σ s H locs → lv_has ls 4 [(0, .ref (L 92 i0)), (1, .int x1), (2, .int x2), (3, .int x3)] → (m_X19_isBetter_L54 i0 (m_X19_isBetter_L6 i0 n6)) σ x1 x2 x3 = some (r_, σ_) → W p l e (wrm 2 60 0 0) s m args below meth c H locs 0 0 (MQ below (wQi g L r_ σ_) args s 0 0 (fun q => gz g ≤ q)) (F0 m 54 ls []) := by
        intro σ x1 x2 x3 H locs ls hW hl hs
        unfold m_X19_isBetter_L54 at hs
        refine lv_iinc (v := (x3 + (1 : Int32))) (lv' := [(3, .int (x3 + (1 : Int32))), (0, .ref (L 92 i0)), (1, .int x1), (2, .int x2)]) hx hb dX19_isBetter_54 hl (k := 3) rfl rfl (by decide) rfl (fun ls hl => ?_)
        refine lv_goto (tgt := 6) hx hb dX19_isBetter_57 (by decide) ?_
        exact ih6 σ x1 x2 (x3 + (1 : Int32)) _ _ ls hW (lv_sub hl [1, 2, 3, 0] rfl) hs
      intro σ x1 x2 x3 H locs ls hW hl hs
      rw [m_X19_isBetter_L6] at hs
      refine lv_iload_n hx hb dX19_isBetter_6 rfl (lv_at hl 3 rfl) ?_
      refine lv_bipush (v := 10) hx hb dX19_isBetter_7 (by decide) ?_
      refine lv_icmp_ge (tgt := 60) hx hb dX19_isBetter_9 (by decide) (fun hc9 => ?_) (fun hc9 => ?_)
      · have hs := ww_T hs hc9
        refine lv_iload_n hx hb dX19_isBetter_60 rfl (lv_at hl 1 rfl) ?_
        refine lv_aload_n hx hb dX19_isBetter_61 rfl (lv_at hl 0 rfl) ?_
        obtain ⟨hc10, hs⟩ := ww_chk hs
        refine gf_X19_20 hx hb hts hown hW (pr_dy hc10 rfl rfl) dX19_isBetter_62 ?_
        refine lv_icmp_gt (tgt := 84) hx hb dX19_isBetter_65 (by decide) (fun hc11 => ?_) (fun hc11 => ?_)
        · have hs := ww_T hs hc11
          exact hL84 σ _ _ ls hW (lv_sub hl [] rfl) hs
        · have hs := ww_F hs hc11
          refine lv_iload_n hx hb dX19_isBetter_68 rfl (lv_at hl 1 rfl) ?_
          refine lv_aload_n hx hb dX19_isBetter_69 rfl (lv_at hl 0 rfl) ?_
          refine gf_X19_20 hx hb hts hown hW (pr_dy hc10 rfl rfl) dX19_isBetter_70 ?_
          refine lv_icmp_ne (tgt := 86) hx hb dX19_isBetter_73 (by decide) (fun hc12 => ?_) (fun hc12 => ?_)
          · have hs := ww_F hs hc12
            exact hL86 σ x1 x2 _ _ ls hW (lv_sub hl [0, 1, 2] rfl) hs
          · have hs := ww_T hs hc12
            refine lv_iload_n hx hb dX19_isBetter_76 rfl (lv_at hl 2 rfl) ?_
            refine lv_aload_n hx hb dX19_isBetter_77 rfl (lv_at hl 0 rfl) ?_
            refine gf_X19_24 hx hb hts hown hW (pr_dy hc10 rfl rfl) dX19_isBetter_78 ?_
            refine lv_icmp_lt (tgt := 86) hx hb dX19_isBetter_81 (by decide) (fun hc13 => ?_) (fun hc13 => ?_)
            · have hs := ww_T hs hc13
              exact hL86 σ x1 x2 _ _ ls hW (lv_sub hl [0, 1, 2] rfl) hs
            · have hs := ww_F hs hc13
              exact hL84 σ _ _ ls hW (lv_sub hl [] rfl) hs
      · have hs := ww_F hs hc9
        refine lv_aload_n hx hb dX19_isBetter_12 rfl (lv_at hl 0 rfl) ?_
        obtain ⟨hc14, hs⟩ := ww_chk hs
        refine gf_X19_3 hx hb hts hown hW (pr_dy hc14 rfl rfl) (hW.fl hgm (pr_dy hc14 rfl rfl) 9 (by decide) rfl (by decide)) dX19_isBetter_13 ?_
        refine gf_X19_50 hx hb hts hown hW (pr_st (hW.rd hgm) (Nat.le_of_ble_eq_true rfl)) (hW.fl hgm (pr_st (hW.rd hgm) (Nat.le_of_ble_eq_true rfl)) 26 (by decide) rfl (by decide)) dX19_isBetter_16 ?_
        refine lv_iload_n hx hb dX19_isBetter_19 rfl (lv_at hl 3 rfl) ?_
        obtain ⟨hc15, hs⟩ := ww_chk hs
        refine ww_zald hx hb hW 36 0 (pr_st (hW.rd hgm) (Nat.le_of_ble_eq_true rfl)) rfl hc15 dX19_isBetter_20 ?_
        refine lv_if_ne (tgt := 27) hx hb dX19_isBetter_21 (by decide) (fun hc16 => ?_) (fun hc16 => ?_)
        · have hs := ww_F hs hc16
          refine lv_iload_n hx hb dX19_isBetter_27 rfl (lv_at hl 1 rfl) ?_
          refine lv_aload_n hx hb dX19_isBetter_28 rfl (lv_at hl 0 rfl) ?_
          refine gf_X19_15 hx hb hts hown hW (pr_dy hc14 rfl rfl) (hW.fl hgm (pr_dy hc14 rfl rfl) 4 (by decide) rfl (by decide)) dX19_isBetter_29 ?_
          refine lv_iload_n hx hb dX19_isBetter_32 rfl (lv_at hl 3 rfl) ?_
          obtain ⟨hc17, hs⟩ := ww_chk hs
          refine ww_iald hx hb hW 95 i0 (pr_dy hc17 rfl rfl) rfl hc15 dX19_isBetter_33 ?_
          refine va_mmax hx hb (hml.trans hl.1.symm) hown (hts _ q1320) (hts _ q604) (hts _ q134) (hts _ q605) (Nat.le_of_ble_eq_true rfl) (Nat.le_of_ble_eq_true rfl) (Nat.le_of_ble_eq_true rfl) (Nat.le_of_ble_eq_true rfl) dX19_isBetter_34 ?_
          refine lv_istore_n (lv' := [(1, .int (imax x1 (gA_ σ 95 i0 x3.toNatClampNeg))), (0, .ref (L 92 i0)), (2, .int x2), (3, .int x3)]) hx hb dX19_isBetter_37 rfl hl (by decide) rfl (fun ls hl => ?_)
          refine lv_iload_n hx hb dX19_isBetter_38 rfl (lv_at hl 2 rfl) ?_
          refine lv_aload_n hx hb dX19_isBetter_39 rfl (lv_at hl 1 rfl) ?_
          refine gf_X19_15 hx hb hts hown hW (pr_dy hc14 rfl rfl) (hW.fl hgm (pr_dy hc14 rfl rfl) 4 (by decide) rfl (by decide)) dX19_isBetter_40 ?_
          refine lv_iload_n hx hb dX19_isBetter_43 rfl (lv_at hl 3 rfl) ?_
          refine ww_iald hx hb hW 95 i0 (pr_dy hc17 rfl rfl) rfl hc15 dX19_isBetter_44 ?_
          refine lv_aload_n hx hb dX19_isBetter_45 rfl (lv_at hl 1 rfl) ?_
          refine gf_X19_15 hx hb hts hown hW (pr_dy hc14 rfl rfl) (hW.fl hgm (pr_dy hc14 rfl rfl) 4 (by decide) rfl (by decide)) dX19_isBetter_46 ?_
          refine lv_iload_n hx hb dX19_isBetter_49 rfl (lv_at hl 3 rfl) ?_
          refine ww_iald hx hb hW 95 i0 (pr_dy hc17 rfl rfl) rfl hc15 dX19_isBetter_50 ?_
          refine lv_imul hx hb dX19_isBetter_51 ?_
          refine lv_iadd hx hb dX19_isBetter_52 ?_
          refine lv_istore_n (lv' := [(2, .int (x2 + ((gA_ σ 95 i0 x3.toNatClampNeg) * (gA_ σ 95 i0 x3.toNatClampNeg)))), (1, .int (imax x1 (gA_ σ 95 i0 x3.toNatClampNeg))), (0, .ref (L 92 i0)), (3, .int x3)]) hx hb dX19_isBetter_53 rfl hl (by decide) rfl (fun ls hl => ?_)
          exact hL54 σ (imax x1 (gA_ σ 95 i0 x3.toNatClampNeg)) (x2 + ((gA_ σ 95 i0 x3.toNatClampNeg) * (gA_ σ 95 i0 x3.toNatClampNeg))) x3 _ _ ls hW (lv_sub hl [2, 1, 0, 3] rfl) hs
        · have hs := ww_T hs hc16
          refine lv_goto (tgt := 54) hx hb dX19_isBetter_24 (by decide) ?_
          exact hL54 σ x1 x2 x3 _ _ ls hW (lv_sub hl [0, 1, 2, 3] rfl) hs
  refine lv_iconst (v := 0) hx hb dX19_isBetter_0 (by decide) ?_
  refine lv_istore_n (lv' := [(1, .int (0 : Int32)), (0, .ref (L 92 i0))]) hx hb dX19_isBetter_1 rfl hl (by decide) rfl (fun ls hl => ?_)
  refine lv_iconst (v := 0) hx hb dX19_isBetter_2 (by decide) ?_
  refine lv_istore_n (lv' := [(2, .int (0 : Int32)), (1, .int (0 : Int32)), (0, .ref (L 92 i0))]) hx hb dX19_isBetter_3 rfl hl (by decide) rfl (fun ls hl => ?_)
  refine lv_iconst (v := 0) hx hb dX19_isBetter_4 (by decide) ?_
  refine lv_istore_n (lv' := [(3, .int (0 : Int32)), (2, .int (0 : Int32)), (1, .int (0 : Int32)), (0, .ref (L 92 i0))]) hx hb dX19_isBetter_5 rfl hl (by decide) rfl (fun ls hl => ?_)
  exact hL6 fu_ σ (0 : Int32) (0 : Int32) (0 : Int32) _ _ ls hW (lv_sub hl [3, 2, 1, 0] rfl) hs
set_option maxHeartbeats 4000000 in
theorem c_X19_may (g : wg_T) (hgm : gm g = true) (l : Launch) (L : ly_T) (σ : st_T) (i0 : Nat) (a1 : Int32) (a2 : Int32) (a3 : Int32) (r_ : Int32) (hs : m_X19_may σ i0 a1 a2 a3 = some r_) : CI g l yX19_may (ws_ yX19_may cX19_may 4 (some .boolean)) 3 82 0 0 [.ref (L 92 i0), .int a1, .int a2, .int a3] L σ r_ σ := by
  refine wbody.met (by decide) (Nat.le_of_ble_eq_true rfl) ?_
  intro p e s m args below meth c ls hx hb hr hml hlocks hts hown hnm hW hl
  have hown : s.vm.findClass RX19 = some m.cls := hown
  have hl : lv_has ls 4 [(0, .ref (L 92 i0)), (1, .int a1), (2, .int a2), (3, .int a3)] := hl
  unfold m_X19_may at hs
  have hL45 : ∀ (σ : st_T) (t0 : Int32) (H : Heap) (locs : List Loc) (ls : Array Slot), wv g L σ s H locs → lv_has ls 4 [] → (m_X19_may_L45 i0) σ t0 = some r_ → W p l e (wrm 3 82 0 0) s m args below meth c H locs 0 0 (MQ below (wQi g L r_ σ) args s 0 0 (fun q => gz g ≤ q)) (F0 m 45 ls [.int t0]) := by
    intro σ t0 H locs ls hW hl hs
    unfold m_X19_may_L45 at hs
    obtain ⟨hc1, hs⟩ := ww_chk hs
    have hs := ww_S hs
    exact we_z hx hb hr hlocks hW hc1 hs rfl (Nat.le_of_ble_eq_true rfl) (Nat.le_of_ble_eq_true rfl) dX19_may_45
  have hL44 : ∀ (σ : st_T)  (H : Heap) (locs : List Loc) (ls : Array Slot), wv g L σ s H locs → lv_has ls 4 [] → (m_X19_may_L44 i0 (m_X19_may_L45 i0)) σ = some r_ → W p l e (wrm 3 82 0 0) s m args below meth c H locs 0 0 (MQ below (wQi g L r_ σ) args s 0 0 (fun q => gz g ≤ q)) (F0 m 44 ls []) := by
    intro σ H locs ls hW hl hs
    unfold m_X19_may_L44 at hs
    refine lv_iconst (v := 0) hx hb dX19_may_44 (by decide) ?_
    exact hL45 σ (0 : Int32) _ _ ls hW (lv_sub hl [] rfl) hs
  refine lv_aload_n hx hb dX19_may_0 rfl (lv_at hl 0 rfl) ?_
  obtain ⟨hc2, hs⟩ := ww_chk hs
  refine gf_X19_3 hx hb hts hown hW (pr_dy hc2 rfl rfl) (hW.fl hgm (pr_dy hc2 rfl rfl) 9 (by decide) rfl (by decide)) dX19_may_1 ?_
  refine gf_X19_50 hx hb hts hown hW (pr_st (hW.rd hgm) (Nat.le_of_ble_eq_true rfl)) (hW.fl hgm (pr_st (hW.rd hgm) (Nat.le_of_ble_eq_true rfl)) 26 (by decide) rfl (by decide)) dX19_may_4 ?_
  refine lv_iload_n hx hb dX19_may_7 rfl (lv_at hl 1 rfl) ?_
  obtain ⟨hc3, hs⟩ := ww_chk hs
  refine ww_zald hx hb hW 36 0 (pr_st (hW.rd hgm) (Nat.le_of_ble_eq_true rfl)) rfl hc3 dX19_may_8 ?_
  refine lv_if_eq (tgt := 44) hx hb dX19_may_9 (by decide) (fun hc4 => ?_) (fun hc4 => ?_)
  · have hs := ww_T hs hc4
    exact hL44 σ _ _ ls hW (lv_sub hl [] rfl) hs
  · have hs := ww_F hs hc4
    refine lv_iload_n hx hb dX19_may_12 rfl (lv_at hl 3 rfl) ?_
    refine lv_iload_n hx hb dX19_may_13 rfl (lv_at hl 1 rfl) ?_
    refine lv_ishr hx hb dX19_may_14 ?_
    refine lv_iconst (v := 1) hx hb dX19_may_15 (by decide) ?_
    refine lv_iand hx hb dX19_may_16 ?_
    refine lv_if_ne (tgt := 44) hx hb dX19_may_17 (by decide) (fun hc5 => ?_) (fun hc5 => ?_)
    · have hs := ww_F hs hc5
      exact hL44 σ _ _ ls hW (lv_sub hl [] rfl) hs
    · have hs := ww_T hs hc5
      refine lv_aload_n hx hb dX19_may_20 rfl (lv_at hl 0 rfl) ?_
      refine gf_X19_3 hx hb hts hown hW (pr_dy hc2 rfl rfl) (hW.fl hgm (pr_dy hc2 rfl rfl) 9 (by decide) rfl (by decide)) dX19_may_21 ?_
      refine lv_iload_n hx hb dX19_may_24 rfl (lv_at hl 1 rfl) ?_
      refine lv_aload_n hx hb dX19_may_25 rfl (lv_at hl 0 rfl) ?_
      refine gf_X19_3 hx hb hts hown hW (pr_dy hc2 rfl rfl) (hW.fl hgm (pr_dy hc2 rfl rfl) 9 (by decide) rfl (by decide)) dX19_may_26 ?_
      refine gf_X19_83 hx hb hts hown hW (pr_st (hW.rd hgm) (Nat.le_of_ble_eq_true rfl)) dX19_may_29 ?_
      refine lv_iload_n hx hb dX19_may_32 rfl (lv_at hl 2 rfl) ?_
      refine lv_iadd hx hb dX19_may_33 ?_
      obtain ⟨v8, hc6, hs⟩ := ww_bnd hs
      refine ww_ci (va_runVN (As := [.int a1, .int ((gF_ σ 1 33 0) + a2)]) (rest := []) ⟨hx, hb, hml, hown, hts⟩ (c_X1_isAway g hgm l L σ a1 ((gF_ σ 1 33 0) + a2) _ hc6) ⟨va_cnB 2 hts (lw_meth q1329) rfl rfl rfl (hW.nw 56 rfl) (hts _ q111) hd_X1_isAway.2 ⟨(Nat.le_of_ble_eq_true rfl), (Nat.le_of_ble_eq_true rfl)⟩, hts _ q1328, hts _ qs31⟩ (ww_preV hW (pr_st (hW.rd hgm) (Nat.le_of_ble_eq_true rfl)) (obv_0 rfl) rfl) rfl rfl hl.1 rfl (lv_room (Nat.le_of_ble_eq_true rfl)) dX19_may_34 ⟨Nat.le_of_ble_eq_true rfl, Nat.le_of_ble_eq_true rfl⟩) hW (fun H locs hW => ?_)
      refine lv_if_ne (tgt := 44) hx hb dX19_may_37 (by decide) (fun hc9 => ?_) (fun hc9 => ?_)
      · have hs := ww_F hs hc9
        exact hL44 σ _ _ ls hW (lv_sub hl [] rfl) hs
      · have hs := ww_T hs hc9
        refine lv_iconst (v := 1) hx hb dX19_may_40 (by decide) ?_
        refine lv_goto (tgt := 45) hx hb dX19_may_41 (by decide) ?_
        exact hL45 σ (1 : Int32) _ _ ls hW (lv_sub hl [] rfl) hs
set_option maxHeartbeats 4000000 in
theorem c_X19_takes (g : wg_T) (hgm : gm g = true) (l : Launch) (L : ly_T) (rec : st_T → Nat → Int32 → Int32 → Option st_T) (fr lo : Nat) (hrec : ∀ (σ : st_T) (i0 : Nat) (a1 : Int32) (a2 : Int32) (σ_ : st_T) , rec σ i0 a1 a2 = some σ_ → CV g l yX19_goes (ws_ yX19_goes cX19_goes 5 none) fr lo 0 0 [.ref (L 92 i0), .int a1, .int a2] L σ σ_) (σ : st_T) (i0 : Nat) (a1 : Int32) (a2 : Int32) (σ_ : st_T) (hs : m_X19_takes rec σ i0 a1 a2 = some σ_) : CV g l yX19_takes (ws_ yX19_takes cX19_takes 4 none) (fr + 2) (lo + 60) 0 0 [.ref (L 92 i0), .int a1, .int a2] L σ σ_ := by
  refine wbody.met (by decide) (Nat.le_of_ble_eq_true rfl) ?_
  intro p e s m args below meth c ls hx hb hr hml hlocks hts hown hnm hW hl
  have hown : s.vm.findClass RX19 = some m.cls := hown
  have hl : lv_has ls 4 [(0, .ref (L 92 i0)), (1, .int a1), (2, .int a2)] := hl
  unfold m_X19_takes at hs
  have hL9 : ∀ (n9 : Nat), ∀ (σ : st_T) (x1 : Int32) (x2 : Int32) (x3 : Int32) (H : Heap) (locs : List Loc) (ls : Array Slot), wv g L σ s H locs → lv_has ls 4 [(0, .ref (L 92 i0)), (1, .int x1), (2, .int x2), (3, .int x3)] → (m_X19_takes_L9 rec i0 n9) σ x1 x2 x3 = some σ_ → W p l e (wrm (fr + 2) (lo + 60) 0 0) s m args below meth c H locs 0 0 (MQ below (wQv g L σ_) args s 0 0 (fun q => gz g ≤ q)) (F0 m 9 ls []) := by
    intro n9
    induction n9 with
    | zero => intro σ x1 x2 x3 H locs ls hW hl hs; rw [m_X19_takes_L9] at hs; cases hs
    | succ n9 ih9 =>
      have hL45 : ∀ (n45 : Nat), ∀ (σ : st_T) (x2 : Int32) (x3 : Int32) (H : Heap) (locs : List Loc) (ls : Array Slot), wv g L σ s H locs → lv_has ls 4 [(0, .ref (L 92 i0)), (2, .int x2), (3, .int x3)] → (m_X19_takes_L45 rec i0 n45) σ x2 x3 = some σ_ → W p l e (wrm (fr + 2) (lo + 60) 0 0) s m args below meth c H locs 0 0 (MQ below (wQv g L σ_) args s 0 0 (fun q => gz g ≤ q)) (F0 m 45 ls []) := by
        intro n45
        induction n45 with
        | zero => intro σ x2 x3 H locs ls hW hl hs; rw [m_X19_takes_L45] at hs; cases hs
        | succ n45 ih45 =>
          intro σ x2 x3 H locs ls hW hl hs
          rw [m_X19_takes_L45] at hs
          refine lv_iload_n hx hb dX19_takes_45 rfl (lv_at hl 2 rfl) ?_
          refine lv_bipush (v := 10) hx hb dX19_takes_46 (by decide) ?_
          refine lv_icmp_ge (tgt := 71) hx hb dX19_takes_48 (by decide) (fun hc1 => ?_) (fun hc1 => ?_)
          · have hs := ww_T hs hc1
            have hs := ww_S hs
            exact we_v hx hb hr hlocks hW hs (Nat.le_of_ble_eq_true rfl) (Nat.le_of_ble_eq_true rfl) dX19_takes_71
          · have hs := ww_F hs hc1
            refine lv_aload_n hx hb dX19_takes_51 rfl (lv_at hl 0 rfl) ?_
            obtain ⟨hc2, hs⟩ := ww_chk hs
            refine gf_X19_15 hx hb hts hown hW (pr_dy hc2 rfl rfl) (hW.fl hgm (pr_dy hc2 rfl rfl) 4 (by decide) rfl (by decide)) dX19_takes_52 ?_
            refine lv_iload_n hx hb dX19_takes_55 rfl (lv_at hl 2 rfl) ?_
            refine lv_dup2_11 hx hb dX19_takes_56 rfl rfl ?_
            obtain ⟨hc3, hs⟩ := ww_chk hs
            obtain ⟨hc4, hs⟩ := ww_chk hs
            refine ww_iald hx hb hW 95 i0 (pr_dy hc3 rfl rfl) rfl hc4 dX19_takes_57 ?_
            refine lv_iload_n hx hb dX19_takes_58 rfl (lv_at hl 1 rfl) ?_
            refine lv_iload_n hx hb dX19_takes_59 rfl (lv_at hl 2 rfl) ?_
            refine lv_ishr hx hb dX19_takes_60 ?_
            refine lv_iconst (v := 1) hx hb dX19_takes_61 (by decide) ?_
            refine lv_iand hx hb dX19_takes_62 ?_
            refine lv_isub hx hb dX19_takes_63 ?_
            obtain ⟨σ5, e6, hs⟩ := ww_let hs
            refine ww_iast hx hb hW 95 i0 (pr_dy hc3 rfl rfl) rfl hc4 dX19_takes_64 (fun H locs hW => ?_)
            have hW : wv g L σ5 s H locs := by rw [e6]; exact hW
            have hc7 : i0 < gN_ σ5 92 := by rw [e6]; exact hc2
            have hc8 : i0 < gN_ σ5 95 := by rw [e6]; exact hc3
            refine lv_iinc (v := (x3 + (1 : Int32))) (lv' := [(3, .int (x3 + (1 : Int32))), (0, .ref (L 92 i0)), (2, .int x2)]) hx hb dX19_takes_65 hl (k := 2) rfl rfl (by decide) rfl (fun ls hl => ?_)
            refine lv_goto (tgt := 45) hx hb dX19_takes_68 (by decide) ?_
            exact ih45 σ5 x2 (x3 + (1 : Int32)) _ _ ls hW (lv_sub hl [1, 2, 0] rfl) hs
      intro σ x1 x2 x3 H locs ls hW hl hs
      rw [m_X19_takes_L9] at hs
      refine lv_iload_n hx hb dX19_takes_9 rfl (lv_at hl 3 rfl) ?_
      refine lv_bipush (v := 10) hx hb dX19_takes_10 (by decide) ?_
      refine lv_icmp_ge (tgt := 35) hx hb dX19_takes_12 (by decide) (fun hc9 => ?_) (fun hc9 => ?_)
      · have hs := ww_T hs hc9
        refine lv_aload_n hx hb dX19_takes_35 rfl (lv_at hl 0 rfl) ?_
        refine lv_iload_n hx hb dX19_takes_36 rfl (lv_at hl 1 rfl) ?_
        refine lv_iconst (v := 1) hx hb dX19_takes_37 (by decide) ?_
        refine lv_iadd hx hb dX19_takes_38 ?_
        refine lv_iload_n hx hb dX19_takes_39 rfl (lv_at hl 2 rfl) ?_
        obtain ⟨σ12, hc10, hs⟩ := ww_bnd hs
        obtain ⟨hc13, hs⟩ := ww_chk hs
        refine ww_cv (va_runV (As := [.int (x1 + (1 : Int32)), .int x2]) (rest := []) ⟨hx, hb, hml, hown, hts⟩ (hrec σ i0 (x1 + (1 : Int32)) x2 _ hc10) (cwV 2 hts (lw_V q1312 q1314 qs28 q150 q1315) rfl rfl rfl hd_X19_goes ⟨(by simp only [wrm]; omega), (by simp only [wrm]; omega)⟩) (ww_preV hW (pr_dy hc13 rfl rfl) (obv_0 rfl) rfl) rfl rfl hl.1 rfl (lv_room (Nat.le_of_ble_eq_true rfl)) dX19_takes_40 ⟨Nat.le_of_ble_eq_true rfl, Nat.le_of_ble_eq_true rfl⟩) hW (fun H locs hW => ?_)
        refine lv_iconst (v := 0) hx hb dX19_takes_43 (by decide) ?_
        refine lv_istore_n (lv' := [(3, .int (0 : Int32)), (0, .ref (L 92 i0)), (1, .int x1), (2, .int x2)]) hx hb dX19_takes_44 rfl hl (by decide) rfl (fun ls hl => ?_)
        exact hL45 fu_ σ12 x2 (0 : Int32) _ _ ls hW (lv_sub hl [1, 3, 0] rfl) hs
      · have hs := ww_F hs hc9
        refine lv_aload_n hx hb dX19_takes_15 rfl (lv_at hl 0 rfl) ?_
        obtain ⟨hc14, hs⟩ := ww_chk hs
        refine gf_X19_15 hx hb hts hown hW (pr_dy hc14 rfl rfl) (hW.fl hgm (pr_dy hc14 rfl rfl) 4 (by decide) rfl (by decide)) dX19_takes_16 ?_
        refine lv_iload_n hx hb dX19_takes_19 rfl (lv_at hl 3 rfl) ?_
        refine lv_dup2_11 hx hb dX19_takes_20 rfl rfl ?_
        obtain ⟨hc15, hs⟩ := ww_chk hs
        obtain ⟨hc16, hs⟩ := ww_chk hs
        refine ww_iald hx hb hW 95 i0 (pr_dy hc15 rfl rfl) rfl hc16 dX19_takes_21 ?_
        refine lv_iload_n hx hb dX19_takes_22 rfl (lv_at hl 2 rfl) ?_
        refine lv_iload_n hx hb dX19_takes_23 rfl (lv_at hl 3 rfl) ?_
        refine lv_ishr hx hb dX19_takes_24 ?_
        refine lv_iconst (v := 1) hx hb dX19_takes_25 (by decide) ?_
        refine lv_iand hx hb dX19_takes_26 ?_
        refine lv_iadd hx hb dX19_takes_27 ?_
        obtain ⟨σ17, e18, hs⟩ := ww_let hs
        refine ww_iast hx hb hW 95 i0 (pr_dy hc15 rfl rfl) rfl hc16 dX19_takes_28 (fun H locs hW => ?_)
        have hW : wv g L σ17 s H locs := by rw [e18]; exact hW
        have hc19 : i0 < gN_ σ17 92 := by rw [e18]; exact hc14
        have hc20 : i0 < gN_ σ17 95 := by rw [e18]; exact hc15
        refine lv_iinc (v := (x3 + (1 : Int32))) (lv' := [(3, .int (x3 + (1 : Int32))), (0, .ref (L 92 i0)), (1, .int x1), (2, .int x2)]) hx hb dX19_takes_29 hl (k := 3) rfl rfl (by decide) rfl (fun ls hl => ?_)
        refine lv_goto (tgt := 9) hx hb dX19_takes_32 (by decide) ?_
        exact ih9 σ17 x1 x2 (x3 + (1 : Int32)) _ _ ls hW (lv_sub hl [1, 2, 3, 0] rfl) hs
  refine lv_aload_n hx hb dX19_takes_0 rfl (lv_at hl 0 rfl) ?_
  obtain ⟨hc21, hs⟩ := ww_chk hs
  refine gf_X19_33 hx hb hts hown hW (pr_dy hc21 rfl rfl) (hW.fl hgm (pr_dy hc21 rfl rfl) 2 (by decide) rfl (by decide)) dX19_takes_1 ?_
  refine lv_iload_n hx hb dX19_takes_4 rfl (lv_at hl 1 rfl) ?_
  refine lv_iload_n hx hb dX19_takes_5 rfl (lv_at hl 2 rfl) ?_
  obtain ⟨hc22, hs⟩ := ww_chk hs
  obtain ⟨hc23, hs⟩ := ww_chk hs
  obtain ⟨σ24, e25, hs⟩ := ww_let hs
  refine ww_iastV hx hb hW 93 i0 (pr_dy hc22 rfl rfl) rfl hc23 dX19_takes_6 (fun H locs hW => ?_)
  have hW : wv g L σ24 s H locs := by rw [e25]; exact hW
  have hc26 : i0 < gN_ σ24 92 := by rw [e25]; exact hc21
  have hc27 : i0 < gN_ σ24 93 := by rw [e25]; exact hc22
  refine lv_iconst (v := 0) hx hb dX19_takes_7 (by decide) ?_
  refine lv_istore_n (lv' := [(3, .int (0 : Int32)), (0, .ref (L 92 i0)), (1, .int a1), (2, .int a2)]) hx hb dX19_takes_8 rfl hl (by decide) rfl (fun ls hl => ?_)
  exact hL9 fu_ σ24 a1 a2 (0 : Int32) _ _ ls hW (lv_sub hl [1, 2, 3, 0] rfl) hs
set_option maxHeartbeats 4000000 in
theorem c_X2_like (g : wg_T) (hgm : gm g = true) (l : Launch) (L : ly_T) (σ : st_T) (i0 : Nat) (i1 : Nat) (σ_ : st_T) (hs : m_X2_like σ i0 i1 = some σ_) : CV g l yX2_like (ws_ yX2_like cX2_like 2 none) 2 60 0 0 [.ref (L 50 i0), .ref (L 50 i1)] L σ σ_ := by
  refine wbody.met (by decide) (Nat.le_of_ble_eq_true rfl) ?_
  intro p e s m args below meth c ls hx hb hr hml hlocks hts hown hnm hW hl
  have hown : s.vm.findClass RX2 = some m.cls := hown
  have hl : lv_has ls 2 [(0, .ref (L 50 i0)), (1, .ref (L 50 i1))] := hl
  unfold m_X2_like at hs
  refine lv_aload_n hx hb dX2_like_0 rfl (lv_at hl 1 rfl) ?_
  obtain ⟨hc1, hs⟩ := ww_chk hs
  refine gf_X2_9 hx hb hts hown hW (pr_st (hW.rd hgm) hc1) (hW.fl hgm (pr_st (hW.rd hgm) hc1) 0 (by decide) rfl (by decide)) dX2_like_1 ?_
  refine lv_iconst (v := 0) hx hb dX2_like_4 (by decide) ?_
  refine lv_aload_n hx hb dX2_like_5 rfl (lv_at hl 0 rfl) ?_
  obtain ⟨hc2, hs⟩ := ww_chk hs
  refine gf_X2_9 hx hb hts hown hW (pr_st (hW.rd hgm) hc2) (hW.fl hgm (pr_st (hW.rd hgm) hc2) 0 (by decide) rfl (by decide)) dX2_like_6 ?_
  refine lv_iconst (v := 0) hx hb dX2_like_9 (by decide) ?_
  refine lv_bipush (v := 64) hx hb dX2_like_10 (by decide) ?_
  obtain ⟨σ3, e4, hs⟩ := ww_let hs
  refine ww_copyi hx hb (hml.trans hl.1.symm) hown (hts _ q493) (hts _ q495) (hts _ q494) (hts _ q145) hW (pr_st (hW.rd hgm) hc1) (pr_st (hW.rd hgm) hc2) (wE_1 rfl) (wE_1 rfl) (by decide) (by decide) (by decide) (by decide) (by decide) (copy_new (wE_1 rfl) (wE_1 rfl)) (fun _ _ h => wE_sA h) rfl (vq_FA rfl rfl) (rdy_FA rfl rfl) (Nat.le_of_ble_eq_true rfl) (Nat.le_of_ble_eq_true rfl) dX2_like_12 (fun H locs hW => ?_)
  have hW : wv g L σ3 s H locs := by rw [e4]; exact hW
  refine lv_aload_n hx hb dX2_like_15 rfl (lv_at hl 1 rfl) ?_
  refine gf_X2_15 hx hb hts hown hW (pr_st (hW.rd hgm) hc1) (hW.fl hgm (pr_st (hW.rd hgm) hc1) 1 (by decide) rfl (by decide)) dX2_like_16 ?_
  refine lv_iconst (v := 0) hx hb dX2_like_19 (by decide) ?_
  refine lv_aload_n hx hb dX2_like_20 rfl (lv_at hl 0 rfl) ?_
  refine gf_X2_15 hx hb hts hown hW (pr_st (hW.rd hgm) hc2) (hW.fl hgm (pr_st (hW.rd hgm) hc2) 1 (by decide) rfl (by decide)) dX2_like_21 ?_
  refine lv_iconst (v := 0) hx hb dX2_like_24 (by decide) ?_
  refine lv_bipush (v := 64) hx hb dX2_like_25 (by decide) ?_
  obtain ⟨σ5, e6, hs⟩ := ww_let hs
  refine ww_copyi hx hb (hml.trans hl.1.symm) hown (hts _ q493) (hts _ q495) (hts _ q494) (hts _ q145) hW (pr_st (hW.rd hgm) hc1) (pr_st (hW.rd hgm) hc2) (wE_1 rfl) (wE_1 rfl) (by decide) (by decide) (by decide) (by decide) (by decide) (copy_new (wE_1 rfl) (wE_1 rfl)) (fun _ _ h => wE_sA h) rfl (vq_FA rfl rfl) (rdy_FA rfl rfl) (Nat.le_of_ble_eq_true rfl) (Nat.le_of_ble_eq_true rfl) dX2_like_27 (fun H locs hW => ?_)
  have hW : wv g L σ5 s H locs := by rw [e6]; exact hW
  refine lv_aload_n hx hb dX2_like_30 rfl (lv_at hl 1 rfl) ?_
  refine gf_X2_18 hx hb hts hown hW (pr_st (hW.rd hgm) hc1) (hW.fl hgm (pr_st (hW.rd hgm) hc1) 2 (by decide) rfl (by decide)) dX2_like_31 ?_
  refine lv_iconst (v := 0) hx hb dX2_like_34 (by decide) ?_
  refine lv_aload_n hx hb dX2_like_35 rfl (lv_at hl 0 rfl) ?_
  refine gf_X2_18 hx hb hts hown hW (pr_st (hW.rd hgm) hc2) (hW.fl hgm (pr_st (hW.rd hgm) hc2) 2 (by decide) rfl (by decide)) dX2_like_36 ?_
  refine lv_iconst (v := 0) hx hb dX2_like_39 (by decide) ?_
  refine lv_bipush (v := 64) hx hb dX2_like_40 (by decide) ?_
  obtain ⟨σ7, e8, hs⟩ := ww_let hs
  refine ww_copyi hx hb (hml.trans hl.1.symm) hown (hts _ q493) (hts _ q495) (hts _ q494) (hts _ q145) hW (pr_st (hW.rd hgm) hc1) (pr_st (hW.rd hgm) hc2) (wE_1 rfl) (wE_1 rfl) (by decide) (by decide) (by decide) (by decide) (by decide) (copy_new (wE_1 rfl) (wE_1 rfl)) (fun _ _ h => wE_sA h) rfl (vq_FA rfl rfl) (rdy_FA rfl rfl) (Nat.le_of_ble_eq_true rfl) (Nat.le_of_ble_eq_true rfl) dX2_like_42 (fun H locs hW => ?_)
  have hW : wv g L σ7 s H locs := by rw [e8]; exact hW
  refine lv_aload_n hx hb dX2_like_45 rfl (lv_at hl 1 rfl) ?_
  refine gf_X2_21 hx hb hts hown hW (pr_st (hW.rd hgm) hc1) (hW.fl hgm (pr_st (hW.rd hgm) hc1) 3 (by decide) rfl (by decide)) dX2_like_46 ?_
  refine lv_iconst (v := 0) hx hb dX2_like_49 (by decide) ?_
  refine lv_aload_n hx hb dX2_like_50 rfl (lv_at hl 0 rfl) ?_
  refine gf_X2_21 hx hb hts hown hW (pr_st (hW.rd hgm) hc2) (hW.fl hgm (pr_st (hW.rd hgm) hc2) 3 (by decide) rfl (by decide)) dX2_like_51 ?_
  refine lv_iconst (v := 0) hx hb dX2_like_54 (by decide) ?_
  refine lv_bipush (v := 64) hx hb dX2_like_55 (by decide) ?_
  obtain ⟨σ9, e10, hs⟩ := ww_let hs
  refine ww_copyi hx hb (hml.trans hl.1.symm) hown (hts _ q493) (hts _ q495) (hts _ q494) (hts _ q145) hW (pr_st (hW.rd hgm) hc1) (pr_st (hW.rd hgm) hc2) (wE_1 rfl) (wE_1 rfl) (by decide) (by decide) (by decide) (by decide) (by decide) (copy_new (wE_1 rfl) (wE_1 rfl)) (fun _ _ h => wE_sA h) rfl (vq_FA rfl rfl) (rdy_FA rfl rfl) (Nat.le_of_ble_eq_true rfl) (Nat.le_of_ble_eq_true rfl) dX2_like_57 (fun H locs hW => ?_)
  have hW : wv g L σ9 s H locs := by rw [e10]; exact hW
  refine lv_aload_n hx hb dX2_like_60 rfl (lv_at hl 1 rfl) ?_
  refine gf_X2_24 hx hb hts hown hW (pr_st (hW.rd hgm) hc1) (hW.fl hgm (pr_st (hW.rd hgm) hc1) 4 (by decide) rfl (by decide)) dX2_like_61 ?_
  refine lv_iconst (v := 0) hx hb dX2_like_64 (by decide) ?_
  refine lv_aload_n hx hb dX2_like_65 rfl (lv_at hl 0 rfl) ?_
  refine gf_X2_24 hx hb hts hown hW (pr_st (hW.rd hgm) hc2) (hW.fl hgm (pr_st (hW.rd hgm) hc2) 4 (by decide) rfl (by decide)) dX2_like_66 ?_
  refine lv_iconst (v := 0) hx hb dX2_like_69 (by decide) ?_
  refine lv_bipush (v := 64) hx hb dX2_like_70 (by decide) ?_
  obtain ⟨σ11, e12, hs⟩ := ww_let hs
  refine ww_copyi hx hb (hml.trans hl.1.symm) hown (hts _ q493) (hts _ q495) (hts _ q494) (hts _ q145) hW (pr_st (hW.rd hgm) hc1) (pr_st (hW.rd hgm) hc2) (wE_1 rfl) (wE_1 rfl) (by decide) (by decide) (by decide) (by decide) (by decide) (copy_new (wE_1 rfl) (wE_1 rfl)) (fun _ _ h => wE_sA h) rfl (vq_FA rfl rfl) (rdy_FA rfl rfl) (Nat.le_of_ble_eq_true rfl) (Nat.le_of_ble_eq_true rfl) dX2_like_72 (fun H locs hW => ?_)
  have hW : wv g L σ11 s H locs := by rw [e12]; exact hW
  refine lv_aload_n hx hb dX2_like_75 rfl (lv_at hl 1 rfl) ?_
  refine gf_X2_27 hx hb hts hown hW (pr_st (hW.rd hgm) hc1) (hW.fl hgm (pr_st (hW.rd hgm) hc1) 5 (by decide) rfl (by decide)) dX2_like_76 ?_
  refine lv_iconst (v := 0) hx hb dX2_like_79 (by decide) ?_
  refine lv_aload_n hx hb dX2_like_80 rfl (lv_at hl 0 rfl) ?_
  refine gf_X2_27 hx hb hts hown hW (pr_st (hW.rd hgm) hc2) (hW.fl hgm (pr_st (hW.rd hgm) hc2) 5 (by decide) rfl (by decide)) dX2_like_81 ?_
  refine lv_iconst (v := 0) hx hb dX2_like_84 (by decide) ?_
  refine lv_bipush (v := 64) hx hb dX2_like_85 (by decide) ?_
  obtain ⟨σ13, e14, hs⟩ := ww_let hs
  refine ww_copyi hx hb (hml.trans hl.1.symm) hown (hts _ q493) (hts _ q495) (hts _ q494) (hts _ q145) hW (pr_st (hW.rd hgm) hc1) (pr_st (hW.rd hgm) hc2) (wE_1 rfl) (wE_1 rfl) (by decide) (by decide) (by decide) (by decide) (by decide) (copy_new (wE_1 rfl) (wE_1 rfl)) (fun _ _ h => wE_sA h) rfl (vq_FA rfl rfl) (rdy_FA rfl rfl) (Nat.le_of_ble_eq_true rfl) (Nat.le_of_ble_eq_true rfl) dX2_like_87 (fun H locs hW => ?_)
  have hW : wv g L σ13 s H locs := by rw [e14]; exact hW
  refine lv_aload_n hx hb dX2_like_90 rfl (lv_at hl 1 rfl) ?_
  refine gf_X2_30 hx hb hts hown hW (pr_st (hW.rd hgm) hc1) (hW.fl hgm (pr_st (hW.rd hgm) hc1) 6 (by decide) rfl (by decide)) dX2_like_91 ?_
  refine lv_iconst (v := 0) hx hb dX2_like_94 (by decide) ?_
  refine lv_aload_n hx hb dX2_like_95 rfl (lv_at hl 0 rfl) ?_
  refine gf_X2_30 hx hb hts hown hW (pr_st (hW.rd hgm) hc2) (hW.fl hgm (pr_st (hW.rd hgm) hc2) 6 (by decide) rfl (by decide)) dX2_like_96 ?_
  refine lv_iconst (v := 0) hx hb dX2_like_99 (by decide) ?_
  refine lv_bipush (v := 64) hx hb dX2_like_100 (by decide) ?_
  obtain ⟨σ15, e16, hs⟩ := ww_let hs
  refine ww_copyi hx hb (hml.trans hl.1.symm) hown (hts _ q493) (hts _ q495) (hts _ q494) (hts _ q145) hW (pr_st (hW.rd hgm) hc1) (pr_st (hW.rd hgm) hc2) (wE_1 rfl) (wE_1 rfl) (by decide) (by decide) (by decide) (by decide) (by decide) (copy_new (wE_1 rfl) (wE_1 rfl)) (fun _ _ h => wE_sA h) rfl (vq_FA rfl rfl) (rdy_FA rfl rfl) (Nat.le_of_ble_eq_true rfl) (Nat.le_of_ble_eq_true rfl) dX2_like_102 (fun H locs hW => ?_)
  have hW : wv g L σ15 s H locs := by rw [e16]; exact hW
  refine lv_aload_n hx hb dX2_like_105 rfl (lv_at hl 1 rfl) ?_
  refine gf_X2_33 hx hb hts hown hW (pr_st (hW.rd hgm) hc1) (hW.fl hgm (pr_st (hW.rd hgm) hc1) 7 (by decide) rfl (by decide)) dX2_like_106 ?_
  refine lv_iconst (v := 0) hx hb dX2_like_109 (by decide) ?_
  refine lv_aload_n hx hb dX2_like_110 rfl (lv_at hl 0 rfl) ?_
  refine gf_X2_33 hx hb hts hown hW (pr_st (hW.rd hgm) hc2) (hW.fl hgm (pr_st (hW.rd hgm) hc2) 7 (by decide) rfl (by decide)) dX2_like_111 ?_
  refine lv_iconst (v := 0) hx hb dX2_like_114 (by decide) ?_
  refine lv_bipush (v := 64) hx hb dX2_like_115 (by decide) ?_
  obtain ⟨σ17, e18, hs⟩ := ww_let hs
  refine ww_copyi hx hb (hml.trans hl.1.symm) hown (hts _ q493) (hts _ q495) (hts _ q494) (hts _ q145) hW (pr_st (hW.rd hgm) hc1) (pr_st (hW.rd hgm) hc2) (wE_1 rfl) (wE_1 rfl) (by decide) (by decide) (by decide) (by decide) (by decide) (copy_new (wE_1 rfl) (wE_1 rfl)) (fun _ _ h => wE_sA h) rfl (vq_FA rfl rfl) (rdy_FA rfl rfl) (Nat.le_of_ble_eq_true rfl) (Nat.le_of_ble_eq_true rfl) dX2_like_117 (fun H locs hW => ?_)
  have hW : wv g L σ17 s H locs := by rw [e18]; exact hW
  refine lv_aload_n hx hb dX2_like_120 rfl (lv_at hl 1 rfl) ?_
  refine gf_X2_36 hx hb hts hown hW (pr_st (hW.rd hgm) hc1) (hW.fl hgm (pr_st (hW.rd hgm) hc1) 8 (by decide) rfl (by decide)) dX2_like_121 ?_
  refine lv_iconst (v := 0) hx hb dX2_like_124 (by decide) ?_
  refine lv_aload_n hx hb dX2_like_125 rfl (lv_at hl 0 rfl) ?_
  refine gf_X2_36 hx hb hts hown hW (pr_st (hW.rd hgm) hc2) (hW.fl hgm (pr_st (hW.rd hgm) hc2) 8 (by decide) rfl (by decide)) dX2_like_126 ?_
  refine lv_iconst (v := 0) hx hb dX2_like_129 (by decide) ?_
  refine lv_bipush (v := 64) hx hb dX2_like_130 (by decide) ?_
  obtain ⟨σ19, e20, hs⟩ := ww_let hs
  refine ww_copyi hx hb (hml.trans hl.1.symm) hown (hts _ q493) (hts _ q495) (hts _ q494) (hts _ q145) hW (pr_st (hW.rd hgm) hc1) (pr_st (hW.rd hgm) hc2) (wE_1 rfl) (wE_1 rfl) (by decide) (by decide) (by decide) (by decide) (by decide) (copy_new (wE_1 rfl) (wE_1 rfl)) (fun _ _ h => wE_sA h) rfl (vq_FA rfl rfl) (rdy_FA rfl rfl) (Nat.le_of_ble_eq_true rfl) (Nat.le_of_ble_eq_true rfl) dX2_like_132 (fun H locs hW => ?_)
  have hW : wv g L σ19 s H locs := by rw [e20]; exact hW
  have hs := ww_S hs
  exact we_v hx hb hr hlocks hW hs (Nat.le_of_ble_eq_true rfl) (Nat.le_of_ble_eq_true rfl) dX2_like_135
set_option maxHeartbeats 4000000 in
theorem c_X2_frightens (g : wg_T) (hgm : gm g = true) (l : Launch) (L : ly_T) (σ : st_T) (i0 : Nat) (a1 : Int32) (a2 : Int32) (σ_ : st_T) (hs : m_X2_frightens σ i0 a1 a2 = some σ_) : CV g l yX2_frightens (ws_ yX2_frightens cX2_frightens 5 none) 3 83 0 0 [.ref (L 50 i0), .int a1, .int a2] L σ σ_ := by
  refine wbody.met (by decide) (Nat.le_of_ble_eq_true rfl) ?_
  intro p e s m args below meth c ls hx hb hr hml hlocks hts hown hnm hW hl
  have hown : s.vm.findClass RX2 = some m.cls := hown
  have hl : lv_has ls 5 [(0, .ref (L 50 i0)), (1, .int a1), (2, .int a2)] := hl
  unfold m_X2_frightens at hs
  have hL22 : ∀ (n22 : Nat), ∀ (σ : st_T) (x1 : Int32) (x2 : Int32) (x3 : Int32) (H : Heap) (locs : List Loc) (ls : Array Slot), wv g L σ s H locs → lv_has ls 5 [(0, .ref (L 50 i0)), (1, .int x1), (2, .int x2), (3, .int x3)] → (m_X2_frightens_L22 i0 n22) σ x1 x2 x3 = some σ_ → W p l e (wrm 3 83 0 0) s m args below meth c H locs 0 0 (MQ below (wQv g L σ_) args s 0 0 (fun q => gz g ≤ q)) (F0 m 22 ls []) := by
    intro n22
    induction n22 with
    | zero => intro σ x1 x2 x3 H locs ls hW hl hs; rw [m_X2_frightens_L22] at hs; cases hs
    | succ n22 ih22 =>
      have hL64 : ∀ (σ : st_T) (x1 : Int32) (x2 : Int32) (x3 : Int32) (H : Heap) (locs : List Loc) (ls : Array Slot), wv g L σ s H locs → lv_has ls 5 [(0, .ref (L 50 i0)), (1, .int x1), (2, .int x2), (3, .int x3)] → (m_X2_frightens_L64 i0 (m_X2_frightens_L22 i0 n22)) σ x1 x2 x3 = some σ_ → W p l e (wrm 3 83 0 0) s m args below meth c H locs 0 0 (MQ below (wQv g L σ_) args s 0 0 (fun q => gz g ≤ q)) (F0 m 64 ls []) := by
        intro σ x1 x2 x3 H locs ls hW hl hs
        unfold m_X2_frightens_L64 at hs
        refine lv_iinc (v := (x3 + (1 : Int32))) (lv' := [(3, .int (x3 + (1 : Int32))), (0, .ref (L 50 i0)), (1, .int x1), (2, .int x2)]) hx hb dX2_frightens_64 hl (k := 3) rfl rfl (by decide) rfl (fun ls hl => ?_)
        refine lv_goto (tgt := 22) hx hb dX2_frightens_67 (by decide) ?_
        exact ih22 σ x1 x2 (x3 + (1 : Int32)) _ _ ls hW (lv_sub hl [1, 2, 3, 0] rfl) hs
      intro σ x1 x2 x3 H locs ls hW hl hs
      rw [m_X2_frightens_L22] at hs
      refine lv_iload_n hx hb dX2_frightens_22 rfl (lv_at hl 3 rfl) ?_
      refine lv_iconst (v := 4) hx hb dX2_frightens_23 (by decide) ?_
      refine lv_icmp_ge (tgt := 70) hx hb dX2_frightens_24 (by decide) (fun hc1 => ?_) (fun hc1 => ?_)
      · have hs := ww_T hs hc1
        have hs := ww_S hs
        exact we_v hx hb hr hlocks hW hs (Nat.le_of_ble_eq_true rfl) (Nat.le_of_ble_eq_true rfl) dX2_frightens_70
      · have hs := ww_F hs hc1
        refine lv_iload_n hx hb dX2_frightens_27 rfl (lv_at hl 1 rfl) ?_
        refine lv_iload_n hx hb dX2_frightens_28 rfl (lv_at hl 3 rfl) ?_
        obtain ⟨v4, hc2, hs⟩ := ww_bnd hs
        refine ww_ci (va_runSN (As := [.int x1, .int x3]) (rest := []) ⟨hx, hb, hml, hown, hts⟩ (c_X1_next g hgm l L σ x1 x3 _ hc2) ⟨va_cnB 2 hts (lw_meth q509) rfl rfl rfl (hW.nw 24 rfl) (hts _ q111) hd_X1_next.2 ⟨(Nat.le_of_ble_eq_true rfl), (Nat.le_of_ble_eq_true rfl)⟩, hts _ q508, trivial⟩ (ww_preS hW) rfl rfl hl.1 rfl (lv_room (Nat.le_of_ble_eq_true rfl)) dX2_frightens_29 ⟨Nat.le_of_ble_eq_true rfl, Nat.le_of_ble_eq_true rfl⟩) hW (fun H locs hW => ?_)
        refine lv_istore (lv' := [(4, .int v4), (0, .ref (L 50 i0)), (1, .int x1), (2, .int x2), (3, .int x3)]) hx hb dX2_frightens_32 hl (by decide) rfl (fun ls hl => ?_)
        refine lv_iload hx hb dX2_frightens_34 (lv_at hl 0 rfl) ?_
        refine lv_iconst (v := (-1)) hx hb dX2_frightens_36 (by decide) ?_
        refine lv_icmp_eq (tgt := 64) hx hb dX2_frightens_37 (by decide) (fun hc5 => ?_) (fun hc5 => ?_)
        · have hs := ww_T hs hc5
          exact hL64 σ x1 x2 x3 _ _ ls hW (lv_sub hl [1, 2, 3, 4] rfl) hs
        · have hs := ww_F hs hc5
          refine lv_aload_n hx hb dX2_frightens_40 rfl (lv_at hl 1 rfl) ?_
          obtain ⟨hc6, hs⟩ := ww_chk hs
          refine gf_X2_24 hx hb hts hown hW (pr_st (hW.rd hgm) hc6) (hW.fl hgm (pr_st (hW.rd hgm) hc6) 4 (by decide) rfl (by decide)) dX2_frightens_41 ?_
          refine lv_iload hx hb dX2_frightens_44 (lv_at hl 0 rfl) ?_
          refine lv_aload_n hx hb dX2_frightens_46 rfl (lv_at hl 1 rfl) ?_
          refine gf_X2_24 hx hb hts hown hW (pr_st (hW.rd hgm) hc6) (hW.fl hgm (pr_st (hW.rd hgm) hc6) 4 (by decide) rfl (by decide)) dX2_frightens_47 ?_
          refine lv_iload hx hb dX2_frightens_50 (lv_at hl 0 rfl) ?_
          obtain ⟨hc7, hs⟩ := ww_chk hs
          refine ww_iald hx hb hW 55 i0 (pr_st (hW.rd hgm) hc6) rfl hc7 dX2_frightens_52 ?_
          refine lv_iload_n hx hb dX2_frightens_53 rfl (lv_at hl 3 rfl) ?_
          refine lv_iconst (v := 2) hx hb dX2_frightens_54 (by decide) ?_
          refine lv_idiv hx hb dX2_frightens_55 (by decide) ?_
          refine lv_iadd hx hb dX2_frightens_56 ?_
          refine lv_sipush (v := 1000) hx hb dX2_frightens_57 (by decide) ?_
          refine va_mmin hx hb (hml.trans hl.1.symm) hown (hts _ q504) (hts _ q505) (hts _ q134) (hts _ q506) (Nat.le_of_ble_eq_true rfl) (Nat.le_of_ble_eq_true rfl) (Nat.le_of_ble_eq_true rfl) (Nat.le_of_ble_eq_true rfl) dX2_frightens_60 ?_
          obtain ⟨σ8, e9, hs⟩ := ww_let hs
          refine ww_iast hx hb hW 55 i0 (pr_st (hW.rd hgm) hc6) rfl hc7 dX2_frightens_63 (fun H locs hW => ?_)
          have hW : wv g L σ8 s H locs := by rw [e9]; exact hW
          exact hL64 σ8 x1 x2 x3 _ _ ls hW (lv_sub hl [1, 2, 3, 4] rfl) hs
  refine lv_aload_n hx hb dX2_frightens_0 rfl (lv_at hl 0 rfl) ?_
  obtain ⟨hc10, hs⟩ := ww_chk hs
  refine gf_X2_24 hx hb hts hown hW (pr_st (hW.rd hgm) hc10) (hW.fl hgm (pr_st (hW.rd hgm) hc10) 4 (by decide) rfl (by decide)) dX2_frightens_1 ?_
  refine lv_iload_n hx hb dX2_frightens_4 rfl (lv_at hl 1 rfl) ?_
  refine lv_aload_n hx hb dX2_frightens_5 rfl (lv_at hl 0 rfl) ?_
  refine gf_X2_24 hx hb hts hown hW (pr_st (hW.rd hgm) hc10) (hW.fl hgm (pr_st (hW.rd hgm) hc10) 4 (by decide) rfl (by decide)) dX2_frightens_6 ?_
  refine lv_iload_n hx hb dX2_frightens_9 rfl (lv_at hl 1 rfl) ?_
  obtain ⟨hc11, hs⟩ := ww_chk hs
  refine ww_iald hx hb hW 55 i0 (pr_st (hW.rd hgm) hc10) rfl hc11 dX2_frightens_10 ?_
  refine lv_iload_n hx hb dX2_frightens_11 rfl (lv_at hl 2 rfl) ?_
  refine lv_iadd hx hb dX2_frightens_12 ?_
  refine lv_sipush (v := 1000) hx hb dX2_frightens_13 (by decide) ?_
  refine va_mmin hx hb (hml.trans hl.1.symm) hown (hts _ q504) (hts _ q505) (hts _ q134) (hts _ q506) (Nat.le_of_ble_eq_true rfl) (Nat.le_of_ble_eq_true rfl) (Nat.le_of_ble_eq_true rfl) (Nat.le_of_ble_eq_true rfl) dX2_frightens_16 ?_
  obtain ⟨σ12, e13, hs⟩ := ww_let hs
  refine ww_iast hx hb hW 55 i0 (pr_st (hW.rd hgm) hc10) rfl hc11 dX2_frightens_19 (fun H locs hW => ?_)
  have hW : wv g L σ12 s H locs := by rw [e13]; exact hW
  refine lv_iconst (v := 0) hx hb dX2_frightens_20 (by decide) ?_
  refine lv_istore_n (lv' := [(3, .int (0 : Int32)), (0, .ref (L 50 i0)), (1, .int a1), (2, .int a2)]) hx hb dX2_frightens_21 rfl hl (by decide) rfl (fun ls hl => ?_)
  exact hL22 fu_ σ12 a1 a2 (0 : Int32) _ _ ls hW (lv_sub hl [1, 2, 3, 0] rfl) hs
set_option maxHeartbeats 4000000 in
theorem c_X2_isOpen (g : wg_T) (hgm : gm g = true) (l : Launch) (L : ly_T) (σ : st_T) (i0 : Nat) (a1 : Int32) (r_ : Int32) (hs : m_X2_isOpen σ i0 a1 = some r_) : CI g l yX2_isOpen (ws_ yX2_isOpen cX2_isOpen 2 (some .boolean)) 2 60 0 0 [.ref (L 50 i0), .int a1] L σ r_ σ := by
  refine wbody.met (by decide) (Nat.le_of_ble_eq_true rfl) ?_
  intro p e s m args below meth c ls hx hb hr hml hlocks hts hown hnm hW hl
  have hown : s.vm.findClass RX2 = some m.cls := hown
  have hl : lv_has ls 2 [(0, .ref (L 50 i0)), (1, .int a1)] := hl
  unfold m_X2_isOpen at hs
  have hL20 : ∀ (σ : st_T) (t0 : Int32) (H : Heap) (locs : List Loc) (ls : Array Slot), wv g L σ s H locs → lv_has ls 2 [] → (m_X2_isOpen_L20 i0) σ t0 = some r_ → W p l e (wrm 2 60 0 0) s m args below meth c H locs 0 0 (MQ below (wQi g L r_ σ) args s 0 0 (fun q => gz g ≤ q)) (F0 m 20 ls [.int t0]) := by
    intro σ t0 H locs ls hW hl hs
    unfold m_X2_isOpen_L20 at hs
    obtain ⟨hc1, hs⟩ := ww_chk hs
    have hs := ww_S hs
    exact we_z hx hb hr hlocks hW hc1 hs rfl (Nat.le_of_ble_eq_true rfl) (Nat.le_of_ble_eq_true rfl) dX2_isOpen_20
  have hL19 : ∀ (σ : st_T)  (H : Heap) (locs : List Loc) (ls : Array Slot), wv g L σ s H locs → lv_has ls 2 [] → (m_X2_isOpen_L19 i0 (m_X2_isOpen_L20 i0)) σ = some r_ → W p l e (wrm 2 60 0 0) s m args below meth c H locs 0 0 (MQ below (wQi g L r_ σ) args s 0 0 (fun q => gz g ≤ q)) (F0 m 19 ls []) := by
    intro σ H locs ls hW hl hs
    unfold m_X2_isOpen_L19 at hs
    refine lv_iconst (v := 0) hx hb dX2_isOpen_19 (by decide) ?_
    exact hL20 σ (0 : Int32) _ _ ls hW (lv_sub hl [] rfl) hs
  refine lv_iload_n hx hb dX2_isOpen_0 rfl (lv_at hl 1 rfl) ?_
  refine lv_iconst (v := (-1)) hx hb dX2_isOpen_1 (by decide) ?_
  refine lv_icmp_eq (tgt := 19) hx hb dX2_isOpen_2 (by decide) (fun hc2 => ?_) (fun hc2 => ?_)
  · have hs := ww_T hs hc2
    exact hL19 σ _ _ ls hW (lv_sub hl [] rfl) hs
  · have hs := ww_F hs hc2
    refine lv_aload_n hx hb dX2_isOpen_5 rfl (lv_at hl 0 rfl) ?_
    obtain ⟨hc3, hs⟩ := ww_chk hs
    refine gf_X2_9 hx hb hts hown hW (pr_st (hW.rd hgm) hc3) (hW.fl hgm (pr_st (hW.rd hgm) hc3) 0 (by decide) rfl (by decide)) dX2_isOpen_6 ?_
    refine lv_iload_n hx hb dX2_isOpen_9 rfl (lv_at hl 1 rfl) ?_
    obtain ⟨hc4, hs⟩ := ww_chk hs
    refine ww_iald hx hb hW 51 i0 (pr_st (hW.rd hgm) hc3) rfl hc4 dX2_isOpen_10 ?_
    refine lv_iconst (v := 1) hx hb dX2_isOpen_11 (by decide) ?_
    refine lv_icmp_eq (tgt := 19) hx hb dX2_isOpen_12 (by decide) (fun hc5 => ?_) (fun hc5 => ?_)
    · have hs := ww_T hs hc5
      exact hL19 σ _ _ ls hW (lv_sub hl [] rfl) hs
    · have hs := ww_F hs hc5
      refine lv_iconst (v := 1) hx hb dX2_isOpen_15 (by decide) ?_
      refine lv_goto (tgt := 20) hx hb dX2_isOpen_16 (by decide) ?_
      exact hL20 σ (1 : Int32) _ _ ls hW (lv_sub hl [] rfl) hs
set_option maxHeartbeats 4000000 in
theorem c_X2_fence (g : wg_T) (hgm : gm g = true) (l : Launch) (L : ly_T) (σ : st_T) (i0 : Nat) (a1 : Int32) (a2 : Int32) (r_ : Int32) (hs : m_X2_fence σ i0 a1 a2 = some r_) : CI g l yX2_fence (ws_ yX2_fence cX2_fence 3 (some .int)) 2 60 0 0 [.ref (L 50 i0), .int a1, .int a2] L σ r_ σ := by
  refine wbody.met (by decide) (Nat.le_of_ble_eq_true rfl) ?_
  intro p e s m args below meth c ls hx hb hr hml hlocks hts hown hnm hW hl
  have hown : s.vm.findClass RX2 = some m.cls := hown
  have hl : lv_has ls 3 [(0, .ref (L 50 i0)), (1, .int a1), (2, .int a2)] := hl
  unfold m_X2_fence at hs
  have hL21 : ∀ (σ : st_T) (x1 : Int32) (x2 : Int32) (rt0 : Nat) (H : Heap) (locs : List Loc) (ls : Array Slot), wv g L σ s H locs → lv_has ls 3 [(1, .int x1), (2, .int x2)] → (m_X2_fence_L21 i0) σ x1 x2 rt0 = some r_ → W p l e (wrm 2 60 0 0) s m args below meth c H locs 0 0 (MQ below (wQi g L r_ σ) args s 0 0 (fun q => gz g ≤ q)) (F0 m 21 ls [.ref (L rt0 i0)]) := by
    intro σ x1 x2 rt0 H locs ls hW hl hs
    unfold m_X2_fence_L21 at hs
    refine lv_iload_n hx hb dX2_fence_21 rfl (lv_at hl 0 rfl) ?_
    refine lv_iload_n hx hb dX2_fence_22 rfl (lv_at hl 1 rfl) ?_
    refine va_mmin hx hb (hml.trans hl.1.symm) hown (hts _ q504) (hts _ q505) (hts _ q134) (hts _ q506) (Nat.le_of_ble_eq_true rfl) (Nat.le_of_ble_eq_true rfl) (Nat.le_of_ble_eq_true rfl) (Nat.le_of_ble_eq_true rfl) dX2_fence_23 ?_
    obtain ⟨hc1, hs⟩ := ww_chk hs
    obtain ⟨hc2, hs⟩ := ww_chk hs
    refine ww_iald hx hb hW rt0 i0 hc1.2 hc1.1 hc2 dX2_fence_26 ?_
    have hs := ww_S hs
    exact we_i hx hb hr hlocks hW hs rfl (Nat.le_of_ble_eq_true rfl) (Nat.le_of_ble_eq_true rfl) dX2_fence_27
  refine lv_iload_n hx hb dX2_fence_0 rfl (lv_at hl 1 rfl) ?_
  refine lv_iload_n hx hb dX2_fence_1 rfl (lv_at hl 2 rfl) ?_
  refine lv_isub hx hb dX2_fence_2 ?_
  refine va_mabs hx hb (hml.trans hl.1.symm) hown (hts _ q559) (hts _ q560) (hts _ q134) (hts _ q561) (Nat.le_of_ble_eq_true rfl) (Nat.le_of_ble_eq_true rfl) (Nat.le_of_ble_eq_true rfl) (Nat.le_of_ble_eq_true rfl) dX2_fence_3 ?_
  refine lv_iconst (v := 1) hx hb dX2_fence_6 (by decide) ?_
  refine lv_icmp_ne (tgt := 17) hx hb dX2_fence_7 (by decide) (fun hc3 => ?_) (fun hc3 => ?_)
  · have hs := ww_F hs hc3
    refine lv_aload_n hx hb dX2_fence_17 rfl (lv_at hl 0 rfl) ?_
    obtain ⟨hc4, hs⟩ := ww_chk hs
    refine gf_X2_30 hx hb hts hown hW (pr_st (hW.rd hgm) hc4) (hW.fl hgm (pr_st (hW.rd hgm) hc4) 6 (by decide) rfl (by decide)) dX2_fence_18 ?_
    exact hL21 σ a1 a2 57 _ _ ls hW (lv_sub hl [1, 2] rfl) hs
  · have hs := ww_T hs hc3
    refine lv_aload_n hx hb dX2_fence_10 rfl (lv_at hl 0 rfl) ?_
    obtain ⟨hc5, hs⟩ := ww_chk hs
    refine gf_X2_27 hx hb hts hown hW (pr_st (hW.rd hgm) hc5) (hW.fl hgm (pr_st (hW.rd hgm) hc5) 5 (by decide) rfl (by decide)) dX2_fence_11 ?_
    refine lv_goto (tgt := 21) hx hb dX2_fence_14 (by decide) ?_
    exact hL21 σ a1 a2 56 _ _ ls hW (lv_sub hl [1, 2] rfl) hs
set_option maxHeartbeats 4000000 in
theorem c_X2_isRipe (g : wg_T) (hgm : gm g = true) (l : Launch) (L : ly_T) (σ : st_T) (i0 : Nat) (a1 : Int32) (r_ : Int32) (hs : m_X2_isRipe σ i0 a1 = some r_) : CI g l yX2_isRipe (ws_ yX2_isRipe cX2_isRipe 2 (some .boolean)) 2 60 0 0 [.ref (L 50 i0), .int a1] L σ r_ σ := by
  refine wbody.met (by decide) (Nat.le_of_ble_eq_true rfl) ?_
  intro p e s m args below meth c ls hx hb hr hml hlocks hts hown hnm hW hl
  have hown : s.vm.findClass RX2 = some m.cls := hown
  have hl : lv_has ls 2 [(0, .ref (L 50 i0)), (1, .int a1)] := hl
  unfold m_X2_isRipe at hs
  have hL24 : ∀ (σ : st_T) (t0 : Int32) (H : Heap) (locs : List Loc) (ls : Array Slot), wv g L σ s H locs → lv_has ls 2 [] → (m_X2_isRipe_L24 i0) σ t0 = some r_ → W p l e (wrm 2 60 0 0) s m args below meth c H locs 0 0 (MQ below (wQi g L r_ σ) args s 0 0 (fun q => gz g ≤ q)) (F0 m 24 ls [.int t0]) := by
    intro σ t0 H locs ls hW hl hs
    unfold m_X2_isRipe_L24 at hs
    obtain ⟨hc1, hs⟩ := ww_chk hs
    have hs := ww_S hs
    exact we_z hx hb hr hlocks hW hc1 hs rfl (Nat.le_of_ble_eq_true rfl) (Nat.le_of_ble_eq_true rfl) dX2_isRipe_24
  have hL23 : ∀ (σ : st_T)  (H : Heap) (locs : List Loc) (ls : Array Slot), wv g L σ s H locs → lv_has ls 2 [] → (m_X2_isRipe_L23 i0 (m_X2_isRipe_L24 i0)) σ = some r_ → W p l e (wrm 2 60 0 0) s m args below meth c H locs 0 0 (MQ below (wQi g L r_ σ) args s 0 0 (fun q => gz g ≤ q)) (F0 m 23 ls []) := by
    intro σ H locs ls hW hl hs
    unfold m_X2_isRipe_L23 at hs
    refine lv_iconst (v := 0) hx hb dX2_isRipe_23 (by decide) ?_
    exact hL24 σ (0 : Int32) _ _ ls hW (lv_sub hl [] rfl) hs
  refine lv_aload_n hx hb dX2_isRipe_0 rfl (lv_at hl 0 rfl) ?_
  obtain ⟨hc2, hs⟩ := ww_chk hs
  refine gf_X2_9 hx hb hts hown hW (pr_st (hW.rd hgm) hc2) (hW.fl hgm (pr_st (hW.rd hgm) hc2) 0 (by decide) rfl (by decide)) dX2_isRipe_1 ?_
  refine lv_iload_n hx hb dX2_isRipe_4 rfl (lv_at hl 1 rfl) ?_
  obtain ⟨hc3, hs⟩ := ww_chk hs
  refine ww_iald hx hb hW 51 i0 (pr_st (hW.rd hgm) hc2) rfl hc3 dX2_isRipe_5 ?_
  refine lv_iconst (v := 2) hx hb dX2_isRipe_6 (by decide) ?_
  refine lv_icmp_ne (tgt := 23) hx hb dX2_isRipe_7 (by decide) (fun hc4 => ?_) (fun hc4 => ?_)
  · have hs := ww_F hs hc4
    exact hL23 σ _ _ ls hW (lv_sub hl [] rfl) hs
  · have hs := ww_T hs hc4
    refine lv_aload_n hx hb dX2_isRipe_10 rfl (lv_at hl 0 rfl) ?_
    refine gf_X2_21 hx hb hts hown hW (pr_st (hW.rd hgm) hc2) (hW.fl hgm (pr_st (hW.rd hgm) hc2) 3 (by decide) rfl (by decide)) dX2_isRipe_11 ?_
    refine lv_iload_n hx hb dX2_isRipe_14 rfl (lv_at hl 1 rfl) ?_
    refine ww_iald hx hb hW 54 i0 (pr_st (hW.rd hgm) hc2) rfl hc3 dX2_isRipe_15 ?_
    refine lv_if_le (tgt := 23) hx hb dX2_isRipe_16 (by decide) (fun hc5 => ?_) (fun hc5 => ?_)
    · have hs := ww_T hs hc5
      exact hL23 σ _ _ ls hW (lv_sub hl [] rfl) hs
    · have hs := ww_F hs hc5
      refine lv_iconst (v := 1) hx hb dX2_isRipe_19 (by decide) ?_
      refine lv_goto (tgt := 24) hx hb dX2_isRipe_20 (by decide) ?_
      exact hL24 σ (1 : Int32) _ _ ls hW (lv_sub hl [] rfl) hs
set_option maxHeartbeats 4000000 in
theorem c_X2_fence_2 (g : wg_T) (hgm : gm g = true) (l : Launch) (L : ly_T) (σ : st_T) (i0 : Nat) (a1 : Int32) (a2 : Int32) (a3 : Int32) (σ_ : st_T) (hs : m_X2_fence_2 σ i0 a1 a2 a3 = some σ_) : CV g l yX2_fence_2 (ws_ yX2_fence_2 cX2_fence_2 4 none) 2 60 0 0 [.ref (L 50 i0), .int a1, .int a2, .int a3] L σ σ_ := by
  refine wbody.met (by decide) (Nat.le_of_ble_eq_true rfl) ?_
  intro p e s m args below meth c ls hx hb hr hml hlocks hts hown hnm hW hl
  have hown : s.vm.findClass RX2 = some m.cls := hown
  have hl : lv_has ls 4 [(0, .ref (L 50 i0)), (1, .int a1), (2, .int a2), (3, .int a3)] := hl
  unfold m_X2_fence_2 at hs
  have hL21 : ∀ (σ : st_T) (x1 : Int32) (x2 : Int32) (x3 : Int32) (rt0 : Nat) (H : Heap) (locs : List Loc) (ls : Array Slot), wv g L σ s H locs → lv_has ls 4 [(1, .int x1), (2, .int x2), (3, .int x3)] → (m_X2_fence_2_L21 i0) σ x1 x2 x3 rt0 = some σ_ → W p l e (wrm 2 60 0 0) s m args below meth c H locs 0 0 (MQ below (wQv g L σ_) args s 0 0 (fun q => gz g ≤ q)) (F0 m 21 ls [.ref (L rt0 i0)]) := by
    intro σ x1 x2 x3 rt0 H locs ls hW hl hs
    unfold m_X2_fence_2_L21 at hs
    refine lv_iload_n hx hb dX2_fence_2_21 rfl (lv_at hl 0 rfl) ?_
    refine lv_iload_n hx hb dX2_fence_2_22 rfl (lv_at hl 1 rfl) ?_
    refine va_mmin hx hb (hml.trans hl.1.symm) hown (hts _ q504) (hts _ q505) (hts _ q134) (hts _ q506) (Nat.le_of_ble_eq_true rfl) (Nat.le_of_ble_eq_true rfl) (Nat.le_of_ble_eq_true rfl) (Nat.le_of_ble_eq_true rfl) dX2_fence_2_23 ?_
    refine lv_iload_n hx hb dX2_fence_2_26 rfl (lv_at hl 2 rfl) ?_
    obtain ⟨hc1, hs⟩ := ww_chk hs
    obtain ⟨hc2, hs⟩ := ww_chk hs
    obtain ⟨σ3, e4, hs⟩ := ww_let hs
    refine ww_iast hx hb hW rt0 i0 hc1.2 hc1.1 hc2 dX2_fence_2_27 (fun H locs hW => ?_)
    have hW : wv g L σ3 s H locs := by rw [e4]; exact hW
    have hs := ww_S hs
    exact we_v hx hb hr hlocks hW hs (Nat.le_of_ble_eq_true rfl) (Nat.le_of_ble_eq_true rfl) dX2_fence_2_28
  refine lv_iload_n hx hb dX2_fence_2_0 rfl (lv_at hl 1 rfl) ?_
  refine lv_iload_n hx hb dX2_fence_2_1 rfl (lv_at hl 2 rfl) ?_
  refine lv_isub hx hb dX2_fence_2_2 ?_
  refine va_mabs hx hb (hml.trans hl.1.symm) hown (hts _ q559) (hts _ q560) (hts _ q134) (hts _ q561) (Nat.le_of_ble_eq_true rfl) (Nat.le_of_ble_eq_true rfl) (Nat.le_of_ble_eq_true rfl) (Nat.le_of_ble_eq_true rfl) dX2_fence_2_3 ?_
  refine lv_iconst (v := 1) hx hb dX2_fence_2_6 (by decide) ?_
  refine lv_icmp_ne (tgt := 17) hx hb dX2_fence_2_7 (by decide) (fun hc5 => ?_) (fun hc5 => ?_)
  · have hs := ww_F hs hc5
    refine lv_aload_n hx hb dX2_fence_2_17 rfl (lv_at hl 0 rfl) ?_
    obtain ⟨hc6, hs⟩ := ww_chk hs
    refine gf_X2_30 hx hb hts hown hW (pr_st (hW.rd hgm) hc6) (hW.fl hgm (pr_st (hW.rd hgm) hc6) 6 (by decide) rfl (by decide)) dX2_fence_2_18 ?_
    exact hL21 σ a1 a2 a3 57 _ _ ls hW (lv_sub hl [1, 2, 3] rfl) hs
  · have hs := ww_T hs hc5
    refine lv_aload_n hx hb dX2_fence_2_10 rfl (lv_at hl 0 rfl) ?_
    obtain ⟨hc7, hs⟩ := ww_chk hs
    refine gf_X2_27 hx hb hts hown hW (pr_st (hW.rd hgm) hc7) (hW.fl hgm (pr_st (hW.rd hgm) hc7) 5 (by decide) rfl (by decide)) dX2_fence_2_11 ?_
    refine lv_goto (tgt := 21) hx hb dX2_fence_2_14 (by decide) ?_
    exact hL21 σ a1 a2 a3 56 _ _ ls hW (lv_sub hl [1, 2, 3] rfl) hs
set_option maxHeartbeats 4000000 in
theorem c_X2_loses (g : wg_T) (hgm : gm g = true) (l : Launch) (L : ly_T) (σ : st_T) (i0 : Nat) (a1 : Int32) (a2 : Int32) (r_ : Int32) (σ_ : st_T) (hs : m_X2_loses σ i0 a1 a2 = some (r_, σ_)) : CI g l yX2_loses (ws_ yX2_loses cX2_loses 4 (some .int)) 2 60 0 0 [.ref (L 50 i0), .int a1, .int a2] L σ r_ σ_ := by
  refine wbody.met (by decide) (Nat.le_of_ble_eq_true rfl) ?_
  intro p e s m args below meth c ls hx hb hr hml hlocks hts hown hnm hW hl
  have hown : s.vm.findClass RX2 = some m.cls := hown
  have hl : lv_has ls 4 [(0, .ref (L 50 i0)), (1, .int a1), (2, .int a2)] := hl
  unfold m_X2_loses at hs
  refine lv_aload_n hx hb dX2_loses_0 rfl (lv_at hl 0 rfl) ?_
  obtain ⟨hc1, hs⟩ := ww_chk hs
  refine gf_X2_21 hx hb hts hown hW (pr_st (hW.rd hgm) hc1) (hW.fl hgm (pr_st (hW.rd hgm) hc1) 3 (by decide) rfl (by decide)) dX2_loses_1 ?_
  refine lv_iload_n hx hb dX2_loses_4 rfl (lv_at hl 1 rfl) ?_
  obtain ⟨hc2, hs⟩ := ww_chk hs
  refine ww_iald hx hb hW 54 i0 (pr_st (hW.rd hgm) hc1) rfl hc2 dX2_loses_5 ?_
  refine lv_iload_n hx hb dX2_loses_6 rfl (lv_at hl 2 rfl) ?_
  refine va_mmin hx hb (hml.trans hl.1.symm) hown (hts _ q504) (hts _ q505) (hts _ q134) (hts _ q506) (Nat.le_of_ble_eq_true rfl) (Nat.le_of_ble_eq_true rfl) (Nat.le_of_ble_eq_true rfl) (Nat.le_of_ble_eq_true rfl) dX2_loses_7 ?_
  refine lv_istore_n (lv' := [(3, .int (imin (gA_ σ 54 i0 a1.toNatClampNeg) a2)), (0, .ref (L 50 i0)), (1, .int a1), (2, .int a2)]) hx hb dX2_loses_10 rfl hl (by decide) rfl (fun ls hl => ?_)
  refine lv_aload_n hx hb dX2_loses_11 rfl (lv_at hl 1 rfl) ?_
  refine gf_X2_21 hx hb hts hown hW (pr_st (hW.rd hgm) hc1) (hW.fl hgm (pr_st (hW.rd hgm) hc1) 3 (by decide) rfl (by decide)) dX2_loses_12 ?_
  refine lv_iload_n hx hb dX2_loses_15 rfl (lv_at hl 2 rfl) ?_
  refine lv_dup2_11 hx hb dX2_loses_16 rfl rfl ?_
  refine ww_iald hx hb hW 54 i0 (pr_st (hW.rd hgm) hc1) rfl hc2 dX2_loses_17 ?_
  refine lv_iload_n hx hb dX2_loses_18 rfl (lv_at hl 0 rfl) ?_
  refine lv_isub hx hb dX2_loses_19 ?_
  obtain ⟨σ3, e4, hs⟩ := ww_let hs
  refine ww_iast hx hb hW 54 i0 (pr_st (hW.rd hgm) hc1) rfl hc2 dX2_loses_20 (fun H locs hW => ?_)
  have hW : wv g L σ3 s H locs := by rw [e4]; exact hW
  refine lv_iload_n hx hb dX2_loses_21 rfl (lv_at hl 0 rfl) ?_
  have hs := ww_S hs
  exact we_i hx hb hr hlocks hW (congrArg Prod.fst hs) (congrArg Prod.snd hs) (Nat.le_of_ble_eq_true rfl) (Nat.le_of_ble_eq_true rfl) dX2_loses_22
set_option maxHeartbeats 4000000 in
theorem c_X2_wears (g : wg_T) (hgm : gm g = true) (l : Launch) (L : ly_T) (σ : st_T) (i0 : Nat) (a1 : Int32) (σ_ : st_T) (hs : m_X2_wears σ i0 a1 = some σ_) : CV g l yX2_wears (ws_ yX2_wears cX2_wears 3 none) 2 60 0 0 [.ref (L 50 i0), .int a1] L σ σ_ := by
  refine wbody.met (by decide) (Nat.le_of_ble_eq_true rfl) ?_
  intro p e s m args below meth c ls hx hb hr hml hlocks hts hown hnm hW hl
  have hown : s.vm.findClass RX2 = some m.cls := hown
  have hl : lv_has ls 3 [(0, .ref (L 50 i0)), (1, .int a1)] := hl
  unfold m_X2_wears at hs
  have hL2 : ∀ (n2 : Nat), ∀ (σ : st_T) (x1 : Int32) (x2 : Int32) (H : Heap) (locs : List Loc) (ls : Array Slot), wv g L σ s H locs → lv_has ls 3 [(0, .ref (L 50 i0)), (1, .int x1), (2, .int x2)] → (m_X2_wears_L2 i0 n2) σ x1 x2 = some σ_ → W p l e (wrm 2 60 0 0) s m args below meth c H locs 0 0 (MQ below (wQv g L σ_) args s 0 0 (fun q => gz g ≤ q)) (F0 m 2 ls []) := by
    intro n2
    induction n2 with
    | zero => intro σ x1 x2 H locs ls hW hl hs; rw [m_X2_wears_L2] at hs; cases hs
    | succ n2 ih2 =>
      intro σ x1 x2 H locs ls hW hl hs
      rw [m_X2_wears_L2] at hs
      refine lv_iload_n hx hb dX2_wears_2 rfl (lv_at hl 2 rfl) ?_
      refine lv_bipush (v := 64) hx hb dX2_wears_3 (by decide) ?_
      refine lv_icmp_ge (tgt := 31) hx hb dX2_wears_5 (by decide) (fun hc1 => ?_) (fun hc1 => ?_)
      · have hs := ww_T hs hc1
        have hs := ww_S hs
        exact we_v hx hb hr hlocks hW hs (Nat.le_of_ble_eq_true rfl) (Nat.le_of_ble_eq_true rfl) dX2_wears_31
      · have hs := ww_F hs hc1
        refine lv_aload_n hx hb dX2_wears_8 rfl (lv_at hl 0 rfl) ?_
        obtain ⟨hc2, hs⟩ := ww_chk hs
        refine gf_X2_24 hx hb hts hown hW (pr_st (hW.rd hgm) hc2) (hW.fl hgm (pr_st (hW.rd hgm) hc2) 4 (by decide) rfl (by decide)) dX2_wears_9 ?_
        refine lv_iload_n hx hb dX2_wears_12 rfl (lv_at hl 2 rfl) ?_
        refine lv_aload_n hx hb dX2_wears_13 rfl (lv_at hl 0 rfl) ?_
        refine gf_X2_24 hx hb hts hown hW (pr_st (hW.rd hgm) hc2) (hW.fl hgm (pr_st (hW.rd hgm) hc2) 4 (by decide) rfl (by decide)) dX2_wears_14 ?_
        refine lv_iload_n hx hb dX2_wears_17 rfl (lv_at hl 2 rfl) ?_
        obtain ⟨hc3, hs⟩ := ww_chk hs
        refine ww_iald hx hb hW 55 i0 (pr_st (hW.rd hgm) hc2) rfl hc3 dX2_wears_18 ?_
        refine lv_iload_n hx hb dX2_wears_19 rfl (lv_at hl 1 rfl) ?_
        refine lv_imul hx hb dX2_wears_20 ?_
        refine lv_bipush (v := 100) hx hb dX2_wears_21 (by decide) ?_
        refine lv_idiv hx hb dX2_wears_23 (by decide) ?_
        obtain ⟨σ4, e5, hs⟩ := ww_let hs
        refine ww_iast hx hb hW 55 i0 (pr_st (hW.rd hgm) hc2) rfl hc3 dX2_wears_24 (fun H locs hW => ?_)
        have hW : wv g L σ4 s H locs := by rw [e5]; exact hW
        refine lv_iinc (v := (x2 + (1 : Int32))) (lv' := [(2, .int (x2 + (1 : Int32))), (0, .ref (L 50 i0)), (1, .int x1)]) hx hb dX2_wears_25 hl (k := 2) rfl rfl (by decide) rfl (fun ls hl => ?_)
        refine lv_goto (tgt := 2) hx hb dX2_wears_28 (by decide) ?_
        exact ih2 σ4 x1 (x2 + (1 : Int32)) _ _ ls hW (lv_sub hl [1, 2, 0] rfl) hs
  refine lv_iconst (v := 0) hx hb dX2_wears_0 (by decide) ?_
  refine lv_istore_n (lv' := [(2, .int (0 : Int32)), (0, .ref (L 50 i0)), (1, .int a1)]) hx hb dX2_wears_1 rfl hl (by decide) rfl (fun ls hl => ?_)
  exact hL2 fu_ σ a1 (0 : Int32) _ _ ls hW (lv_sub hl [1, 2, 0] rfl) hs
set_option maxHeartbeats 4000000 in
theorem c_X2_without (g : wg_T) (hgm : gm g = true) (l : Launch) (L : ly_T) (σ : st_T) (i0 : Nat) (a1 : Int32) (σ_ : st_T) (hs : m_X2_without σ i0 a1 = some σ_) : CV g l yX2_without (ws_ yX2_without cX2_without 3 none) 2 60 0 0 [.ref (L 50 i0), .int a1] L σ σ_ := by
  refine wbody.met (by decide) (Nat.le_of_ble_eq_true rfl) ?_
  intro p e s m args below meth c ls hx hb hr hml hlocks hts hown hnm hW hl
  have hown : s.vm.findClass RX2 = some m.cls := hown
  have hl : lv_has ls 3 [(0, .ref (L 50 i0)), (1, .int a1)] := hl
  unfold m_X2_without at hs
  have hL2 : ∀ (n2 : Nat), ∀ (σ : st_T) (x1 : Int32) (x2 : Int32) (H : Heap) (locs : List Loc) (ls : Array Slot), wv g L σ s H locs → lv_has ls 3 [(0, .ref (L 50 i0)), (1, .int x1), (2, .int x2)] → (m_X2_without_L2 i0 n2) σ x1 x2 = some σ_ → W p l e (wrm 2 60 0 0) s m args below meth c H locs 0 0 (MQ below (wQv g L σ_) args s 0 0 (fun q => gz g ≤ q)) (F0 m 2 ls []) := by
    intro n2
    induction n2 with
    | zero => intro σ x1 x2 H locs ls hW hl hs; rw [m_X2_without_L2] at hs; cases hs
    | succ n2 ih2 =>
      have hL33 : ∀ (σ : st_T) (x1 : Int32) (x2 : Int32) (t1 : Int32) (t2 : Int32) (H : Heap) (locs : List Loc) (ls : Array Slot), wv g L σ s H locs → lv_has ls 3 [(0, .ref (L 50 i0)), (1, .int x1), (2, .int x2)] → (m_X2_without_L33 i0 (m_X2_without_L2 i0 n2)) σ x1 x2 t1 t2 = some σ_ → W p l e (wrm 2 60 0 0) s m args below meth c H locs 0 0 (MQ below (wQv g L σ_) args s 0 0 (fun q => gz g ≤ q)) (F0 m 33 ls [.int t2, .int t1, .ref (L 56 i0)]) := by
        have hL59 : ∀ (σ : st_T) (x1 : Int32) (x2 : Int32) (t1 : Int32) (t2 : Int32) (H : Heap) (locs : List Loc) (ls : Array Slot), wv g L σ s H locs → lv_has ls 3 [(0, .ref (L 50 i0)), (1, .int x1), (2, .int x2)] → (m_X2_without_L59 i0 (m_X2_without_L2 i0 n2)) σ x1 x2 t1 t2 = some σ_ → W p l e (wrm 2 60 0 0) s m args below meth c H locs 0 0 (MQ below (wQv g L σ_) args s 0 0 (fun q => gz g ≤ q)) (F0 m 59 ls [.int t2, .int t1, .ref (L 57 i0)]) := by
          intro σ x1 x2 t1 t2 H locs ls hW hl hs
          unfold m_X2_without_L59 at hs
          obtain ⟨hc1, hs⟩ := ww_chk hs
          obtain ⟨hc2, hs⟩ := ww_chk hs
          obtain ⟨σ3, e4, hs⟩ := ww_let hs
          refine ww_iast hx hb hW 57 i0 (pr_st (hW.rd hgm) hc1) rfl hc2 dX2_without_59 (fun H locs hW => ?_)
          have hW : wv g L σ3 s H locs := by rw [e4]; exact hW
          refine lv_iinc (v := (x2 + (1 : Int32))) (lv' := [(2, .int (x2 + (1 : Int32))), (0, .ref (L 50 i0)), (1, .int x1)]) hx hb dX2_without_60 hl (k := 2) rfl rfl (by decide) rfl (fun ls hl => ?_)
          refine lv_goto (tgt := 2) hx hb dX2_without_63 (by decide) ?_
          exact ih2 σ3 x1 (x2 + (1 : Int32)) _ _ ls hW (lv_sub hl [1, 2, 0] rfl) hs
        intro σ x1 x2 t1 t2 H locs ls hW hl hs
        unfold m_X2_without_L33 at hs
        obtain ⟨hc5, hs⟩ := ww_chk hs
        obtain ⟨hc6, hs⟩ := ww_chk hs
        obtain ⟨σ7, e8, hs⟩ := ww_let hs
        refine ww_iast hx hb hW 56 i0 (pr_st (hW.rd hgm) hc5) rfl hc6 dX2_without_33 (fun H locs hW => ?_)
        have hW : wv g L σ7 s H locs := by rw [e8]; exact hW
        refine lv_aload_n hx hb dX2_without_34 rfl (lv_at hl 0 rfl) ?_
        refine gf_X2_30 hx hb hts hown hW (pr_st (hW.rd hgm) hc5) (hW.fl hgm (pr_st (hW.rd hgm) hc5) 6 (by decide) rfl (by decide)) dX2_without_35 ?_
        refine lv_iload_n hx hb dX2_without_38 rfl (lv_at hl 2 rfl) ?_
        refine lv_aload_n hx hb dX2_without_39 rfl (lv_at hl 0 rfl) ?_
        refine gf_X2_36 hx hb hts hown hW (pr_st (hW.rd hgm) hc5) (hW.fl hgm (pr_st (hW.rd hgm) hc5) 8 (by decide) rfl (by decide)) dX2_without_40 ?_
        refine lv_iload_n hx hb dX2_without_43 rfl (lv_at hl 2 rfl) ?_
        obtain ⟨hc9, hs⟩ := ww_chk hs
        refine ww_iald hx hb hW 59 i0 (pr_st (hW.rd hgm) hc5) rfl hc9 dX2_without_44 ?_
        refine lv_iload_n hx hb dX2_without_45 rfl (lv_at hl 1 rfl) ?_
        refine lv_icmp_ne (tgt := 53) hx hb dX2_without_46 (by decide) (fun hc10 => ?_) (fun hc10 => ?_)
        · have hs := ww_F hs hc10
          refine lv_aload_n hx hb dX2_without_53 rfl (lv_at hl 0 rfl) ?_
          refine gf_X2_30 hx hb hts hown hW (pr_st (hW.rd hgm) hc5) (hW.fl hgm (pr_st (hW.rd hgm) hc5) 6 (by decide) rfl (by decide)) dX2_without_54 ?_
          refine lv_iload_n hx hb dX2_without_57 rfl (lv_at hl 2 rfl) ?_
          refine ww_iald hx hb hW 57 i0 (pr_st (hW.rd hgm) hc5) rfl hc9 dX2_without_58 ?_
          exact hL59 σ7 x1 x2 x2 (gA_ σ7 57 i0 x2.toNatClampNeg) _ _ ls hW (lv_sub hl [0, 1, 2] rfl) hs
        · have hs := ww_T hs hc10
          refine lv_iconst (v := 0) hx hb dX2_without_49 (by decide) ?_
          refine lv_goto (tgt := 59) hx hb dX2_without_50 (by decide) ?_
          exact hL59 σ7 x1 x2 x2 (0 : Int32) _ _ ls hW (lv_sub hl [0, 1, 2] rfl) hs
      intro σ x1 x2 H locs ls hW hl hs
      rw [m_X2_without_L2] at hs
      refine lv_iload_n hx hb dX2_without_2 rfl (lv_at hl 2 rfl) ?_
      refine lv_bipush (v := 64) hx hb dX2_without_3 (by decide) ?_
      refine lv_icmp_ge (tgt := 66) hx hb dX2_without_5 (by decide) (fun hc11 => ?_) (fun hc11 => ?_)
      · have hs := ww_T hs hc11
        have hs := ww_S hs
        exact we_v hx hb hr hlocks hW hs (Nat.le_of_ble_eq_true rfl) (Nat.le_of_ble_eq_true rfl) dX2_without_66
      · have hs := ww_F hs hc11
        refine lv_aload_n hx hb dX2_without_8 rfl (lv_at hl 0 rfl) ?_
        obtain ⟨hc12, hs⟩ := ww_chk hs
        refine gf_X2_27 hx hb hts hown hW (pr_st (hW.rd hgm) hc12) (hW.fl hgm (pr_st (hW.rd hgm) hc12) 5 (by decide) rfl (by decide)) dX2_without_9 ?_
        refine lv_iload_n hx hb dX2_without_12 rfl (lv_at hl 2 rfl) ?_
        refine lv_aload_n hx hb dX2_without_13 rfl (lv_at hl 0 rfl) ?_
        refine gf_X2_33 hx hb hts hown hW (pr_st (hW.rd hgm) hc12) (hW.fl hgm (pr_st (hW.rd hgm) hc12) 7 (by decide) rfl (by decide)) dX2_without_14 ?_
        refine lv_iload_n hx hb dX2_without_17 rfl (lv_at hl 2 rfl) ?_
        obtain ⟨hc13, hs⟩ := ww_chk hs
        refine ww_iald hx hb hW 58 i0 (pr_st (hW.rd hgm) hc12) rfl hc13 dX2_without_18 ?_
        refine lv_iload_n hx hb dX2_without_19 rfl (lv_at hl 1 rfl) ?_
        refine lv_icmp_ne (tgt := 27) hx hb dX2_without_20 (by decide) (fun hc14 => ?_) (fun hc14 => ?_)
        · have hs := ww_F hs hc14
          refine lv_aload_n hx hb dX2_without_27 rfl (lv_at hl 0 rfl) ?_
          refine gf_X2_27 hx hb hts hown hW (pr_st (hW.rd hgm) hc12) (hW.fl hgm (pr_st (hW.rd hgm) hc12) 5 (by decide) rfl (by decide)) dX2_without_28 ?_
          refine lv_iload_n hx hb dX2_without_31 rfl (lv_at hl 2 rfl) ?_
          refine ww_iald hx hb hW 56 i0 (pr_st (hW.rd hgm) hc12) rfl hc13 dX2_without_32 ?_
          exact hL33 σ x1 x2 x2 (gA_ σ 56 i0 x2.toNatClampNeg) _ _ ls hW (lv_sub hl [0, 1, 2] rfl) hs
        · have hs := ww_T hs hc14
          refine lv_iconst (v := 0) hx hb dX2_without_23 (by decide) ?_
          refine lv_goto (tgt := 33) hx hb dX2_without_24 (by decide) ?_
          exact hL33 σ x1 x2 x2 (0 : Int32) _ _ ls hW (lv_sub hl [0, 1, 2] rfl) hs
  refine lv_iconst (v := 0) hx hb dX2_without_0 (by decide) ?_
  refine lv_istore_n (lv' := [(2, .int (0 : Int32)), (0, .ref (L 50 i0)), (1, .int a1)]) hx hb dX2_without_1 rfl hl (by decide) rfl (fun ls hl => ?_)
  exact hL2 fu_ σ a1 (0 : Int32) _ _ ls hW (lv_sub hl [1, 2, 0] rfl) hs
set_option maxHeartbeats 4000000 in
theorem c_X2_builder (g : wg_T) (hgm : gm g = true) (l : Launch) (L : ly_T) (σ : st_T) (i0 : Nat) (a1 : Int32) (a2 : Int32) (a3 : Int32) (σ_ : st_T) (hs : m_X2_builder σ i0 a1 a2 a3 = some σ_) : CV g l yX2_builder (ws_ yX2_builder cX2_builder 4 none) 2 60 0 0 [.ref (L 50 i0), .int a1, .int a2, .int a3] L σ σ_ := by
  refine wbody.met (by decide) (Nat.le_of_ble_eq_true rfl) ?_
  intro p e s m args below meth c ls hx hb hr hml hlocks hts hown hnm hW hl
  have hown : s.vm.findClass RX2 = some m.cls := hown
  have hl : lv_has ls 4 [(0, .ref (L 50 i0)), (1, .int a1), (2, .int a2), (3, .int a3)] := hl
  unfold m_X2_builder at hs
  have hL21 : ∀ (σ : st_T) (x1 : Int32) (x2 : Int32) (x3 : Int32) (rt0 : Nat) (H : Heap) (locs : List Loc) (ls : Array Slot), wv g L σ s H locs → lv_has ls 4 [(1, .int x1), (2, .int x2), (3, .int x3)] → (m_X2_builder_L21 i0) σ x1 x2 x3 rt0 = some σ_ → W p l e (wrm 2 60 0 0) s m args below meth c H locs 0 0 (MQ below (wQv g L σ_) args s 0 0 (fun q => gz g ≤ q)) (F0 m 21 ls [.ref (L rt0 i0)]) := by
    intro σ x1 x2 x3 rt0 H locs ls hW hl hs
    unfold m_X2_builder_L21 at hs
    refine lv_iload_n hx hb dX2_builder_21 rfl (lv_at hl 0 rfl) ?_
    refine lv_iload_n hx hb dX2_builder_22 rfl (lv_at hl 1 rfl) ?_
    refine va_mmin hx hb (hml.trans hl.1.symm) hown (hts _ q504) (hts _ q505) (hts _ q134) (hts _ q506) (Nat.le_of_ble_eq_true rfl) (Nat.le_of_ble_eq_true rfl) (Nat.le_of_ble_eq_true rfl) (Nat.le_of_ble_eq_true rfl) dX2_builder_23 ?_
    refine lv_iload_n hx hb dX2_builder_26 rfl (lv_at hl 2 rfl) ?_
    obtain ⟨hc1, hs⟩ := ww_chk hs
    obtain ⟨hc2, hs⟩ := ww_chk hs
    obtain ⟨σ3, e4, hs⟩ := ww_let hs
    refine ww_iast hx hb hW rt0 i0 hc1.2 hc1.1 hc2 dX2_builder_27 (fun H locs hW => ?_)
    have hW : wv g L σ3 s H locs := by rw [e4]; exact hW
    have hs := ww_S hs
    exact we_v hx hb hr hlocks hW hs (Nat.le_of_ble_eq_true rfl) (Nat.le_of_ble_eq_true rfl) dX2_builder_28
  refine lv_iload_n hx hb dX2_builder_0 rfl (lv_at hl 1 rfl) ?_
  refine lv_iload_n hx hb dX2_builder_1 rfl (lv_at hl 2 rfl) ?_
  refine lv_isub hx hb dX2_builder_2 ?_
  refine va_mabs hx hb (hml.trans hl.1.symm) hown (hts _ q559) (hts _ q560) (hts _ q134) (hts _ q561) (Nat.le_of_ble_eq_true rfl) (Nat.le_of_ble_eq_true rfl) (Nat.le_of_ble_eq_true rfl) (Nat.le_of_ble_eq_true rfl) dX2_builder_3 ?_
  refine lv_iconst (v := 1) hx hb dX2_builder_6 (by decide) ?_
  refine lv_icmp_ne (tgt := 17) hx hb dX2_builder_7 (by decide) (fun hc5 => ?_) (fun hc5 => ?_)
  · have hs := ww_F hs hc5
    refine lv_aload_n hx hb dX2_builder_17 rfl (lv_at hl 0 rfl) ?_
    obtain ⟨hc6, hs⟩ := ww_chk hs
    refine gf_X2_36 hx hb hts hown hW (pr_st (hW.rd hgm) hc6) (hW.fl hgm (pr_st (hW.rd hgm) hc6) 8 (by decide) rfl (by decide)) dX2_builder_18 ?_
    exact hL21 σ a1 a2 a3 59 _ _ ls hW (lv_sub hl [1, 2, 3] rfl) hs
  · have hs := ww_T hs hc5
    refine lv_aload_n hx hb dX2_builder_10 rfl (lv_at hl 0 rfl) ?_
    obtain ⟨hc7, hs⟩ := ww_chk hs
    refine gf_X2_33 hx hb hts hown hW (pr_st (hW.rd hgm) hc7) (hW.fl hgm (pr_st (hW.rd hgm) hc7) 7 (by decide) rfl (by decide)) dX2_builder_11 ?_
    refine lv_goto (tgt := 21) hx hb dX2_builder_14 (by decide) ?_
    exact hL21 σ a1 a2 a3 58 _ _ ls hW (lv_sub hl [1, 2, 3] rfl) hs
set_option maxHeartbeats 4000000 in
theorem c_X2_ripe (g : wg_T) (hgm : gm g = true) (l : Launch) (L : ly_T) (σ : st_T) (i0 : Nat) (r_ : Int32) (σ_ : st_T) (hs : m_X2_ripe σ i0 = some (r_, σ_)) : CI g l yX2_ripe (ws_ yX2_ripe cX2_ripe 4 (some .int)) 3 81 0 0 [.ref (L 50 i0), .ref (L 24 0)] L σ r_ σ_ := by
  refine wbody.met (by decide) (Nat.le_of_ble_eq_true rfl) ?_
  intro p e s m args below meth c ls hx hb hr hml hlocks hts hown hnm hW hl
  have hown : s.vm.findClass RX2 = some m.cls := hown
  have hl : lv_has ls 4 [(0, .ref (L 50 i0)), (1, .ref (L 24 0))] := hl
  unfold m_X2_ripe at hs
  have hL4 : ∀ (n4 : Nat), ∀ (σ : st_T) (x2 : Int32) (x3 : Int32) (H : Heap) (locs : List Loc) (ls : Array Slot), wv g L σ s H locs → lv_has ls 4 [(0, .ref (L 50 i0)), (1, .ref (L 24 0)), (2, .int x2), (3, .int x3)] → (m_X2_ripe_L4 i0 n4) σ x2 x3 = some (r_, σ_) → W p l e (wrm 3 81 0 0) s m args below meth c H locs 0 0 (MQ below (wQi g L r_ σ_) args s 0 0 (fun q => gz g ≤ q)) (F0 m 4 ls []) := by
    intro n4
    induction n4 with
    | zero => intro σ x2 x3 H locs ls hW hl hs; rw [m_X2_ripe_L4] at hs; cases hs
    | succ n4 ih4 =>
      have hL37 : ∀ (σ : st_T) (x2 : Int32) (H : Heap) (locs : List Loc) (ls : Array Slot), wv g L σ s H locs → lv_has ls 4 [(2, .int x2)] → (m_X2_ripe_L37 i0) σ x2 = some (r_, σ_) → W p l e (wrm 3 81 0 0) s m args below meth c H locs 0 0 (MQ below (wQi g L r_ σ_) args s 0 0 (fun q => gz g ≤ q)) (F0 m 37 ls []) := by
        intro σ x2 H locs ls hW hl hs
        unfold m_X2_ripe_L37 at hs
        refine lv_iload_n hx hb dX2_ripe_37 rfl (lv_at hl 0 rfl) ?_
        have hs := ww_S hs
        exact we_i hx hb hr hlocks hW (congrArg Prod.fst hs) (congrArg Prod.snd hs) (Nat.le_of_ble_eq_true rfl) (Nat.le_of_ble_eq_true rfl) dX2_ripe_38
      have hL31 : ∀ (σ : st_T) (x2 : Int32) (x3 : Int32) (H : Heap) (locs : List Loc) (ls : Array Slot), wv g L σ s H locs → lv_has ls 4 [(0, .ref (L 50 i0)), (1, .ref (L 24 0)), (2, .int x2), (3, .int x3)] → (m_X2_ripe_L31 i0 (m_X2_ripe_L4 i0 n4)) σ x2 x3 = some (r_, σ_) → W p l e (wrm 3 81 0 0) s m args below meth c H locs 0 0 (MQ below (wQi g L r_ σ_) args s 0 0 (fun q => gz g ≤ q)) (F0 m 31 ls []) := by
        intro σ x2 x3 H locs ls hW hl hs
        unfold m_X2_ripe_L31 at hs
        refine lv_iinc (v := (x3 + (1 : Int32))) (lv' := [(3, .int (x3 + (1 : Int32))), (0, .ref (L 50 i0)), (1, .ref (L 24 0)), (2, .int x2)]) hx hb dX2_ripe_31 hl (k := 3) rfl rfl (by decide) rfl (fun ls hl => ?_)
        refine lv_goto (tgt := 4) hx hb dX2_ripe_34 (by decide) ?_
        exact ih4 σ x2 (x3 + (1 : Int32)) _ _ ls hW (lv_sub hl [1, 2, 3, 0] rfl) hs
      intro σ x2 x3 H locs ls hW hl hs
      rw [m_X2_ripe_L4] at hs
      refine lv_iload_n hx hb dX2_ripe_4 rfl (lv_at hl 3 rfl) ?_
      refine lv_bipush (v := 64) hx hb dX2_ripe_5 (by decide) ?_
      refine lv_icmp_ge (tgt := 37) hx hb dX2_ripe_7 (by decide) (fun hc1 => ?_) (fun hc1 => ?_)
      · have hs := ww_T hs hc1
        exact hL37 σ x2 _ _ ls hW (lv_sub hl [2] rfl) hs
      · have hs := ww_F hs hc1
        refine lv_iload_n hx hb dX2_ripe_10 rfl (lv_at hl 2 rfl) ?_
        refine lv_bipush (v := 12) hx hb dX2_ripe_11 (by decide) ?_
        refine lv_icmp_ge (tgt := 37) hx hb dX2_ripe_13 (by decide) (fun hc2 => ?_) (fun hc2 => ?_)
        · have hs := ww_T hs hc2
          exact hL37 σ x2 _ _ ls hW (lv_sub hl [2] rfl) hs
        · have hs := ww_F hs hc2
          refine lv_aload_n hx hb dX2_ripe_16 rfl (lv_at hl 0 rfl) ?_
          refine lv_iload_n hx hb dX2_ripe_17 rfl (lv_at hl 3 rfl) ?_
          obtain ⟨v5, hc3, hs⟩ := ww_bnd hs
          obtain ⟨hc6, hs⟩ := ww_chk hs
          refine ww_ci (va_runV (As := [.int x3]) (rest := []) ⟨hx, hb, hml, hown, hts⟩ (c_X2_isRipe g hgm l L σ i0 x3 _ hc3) (cwV 1 hts (lw_V q1245 q564 q565 q112 q566) rfl rfl rfl hd_X2_isRipe ⟨(Nat.le_of_ble_eq_true rfl), (Nat.le_of_ble_eq_true rfl)⟩) (ww_preV hW (pr_st (hW.rd hgm) hc6) (obv_0 rfl) rfl) rfl rfl hl.1 rfl (lv_room (Nat.le_of_ble_eq_true rfl)) dX2_ripe_18 ⟨Nat.le_of_ble_eq_true rfl, Nat.le_of_ble_eq_true rfl⟩) hW (fun H locs hW => ?_)
          refine lv_if_eq (tgt := 31) hx hb dX2_ripe_21 (by decide) (fun hc7 => ?_) (fun hc7 => ?_)
          · have hs := ww_T hs hc7
            exact hL31 σ x2 x3 _ _ ls hW (lv_sub hl [0, 1, 2, 3] rfl) hs
          · have hs := ww_F hs hc7
            refine lv_aload_n hx hb dX2_ripe_24 rfl (lv_at hl 1 rfl) ?_
            refine lv_iload_n hx hb dX2_ripe_25 rfl (lv_at hl 2 rfl) ?_
            refine lv_iinc (v := (x2 + (1 : Int32))) (lv' := [(2, .int (x2 + (1 : Int32))), (0, .ref (L 50 i0)), (1, .ref (L 24 0)), (3, .int x3)]) hx hb dX2_ripe_26 hl (k := 2) rfl rfl (by decide) rfl (fun ls hl => ?_)
            refine lv_iload_n hx hb dX2_ripe_29 rfl (lv_at hl 3 rfl) ?_
            obtain ⟨hc8, hs⟩ := ww_chk hs
            obtain ⟨σ9, e10, hs⟩ := ww_let hs
            refine ww_iast hx hb hW 24 0 (pr_st (hW.rd hgm) (Nat.le_of_ble_eq_true rfl)) rfl hc8 dX2_ripe_30 (fun H locs hW => ?_)
            have hW : wv g L σ9 s H locs := by rw [e10]; exact hW
            exact hL31 σ9 (x2 + (1 : Int32)) x3 _ _ ls hW (lv_sub hl [1, 2, 0, 3] rfl) hs
  refine lv_iconst (v := 0) hx hb dX2_ripe_0 (by decide) ?_
  refine lv_istore_n (lv' := [(2, .int (0 : Int32)), (0, .ref (L 50 i0)), (1, .ref (L 24 0))]) hx hb dX2_ripe_1 rfl hl (by decide) rfl (fun ls hl => ?_)
  refine lv_iconst (v := 0) hx hb dX2_ripe_2 (by decide) ?_
  refine lv_istore_n (lv' := [(3, .int (0 : Int32)), (2, .int (0 : Int32)), (0, .ref (L 50 i0)), (1, .ref (L 24 0))]) hx hb dX2_ripe_3 rfl hl (by decide) rfl (fun ls hl => ?_)
  exact hL4 fu_ σ (0 : Int32) (0 : Int32) _ _ ls hW (lv_sub hl [2, 3, 1, 0] rfl) hs
set_option maxHeartbeats 4000000 in
theorem c_X3_nearest (g : wg_T) (hgm : gm g = true) (l : Launch) (L : ly_T) (σ : st_T)  (r_ : Int32) (hs : m_X3_nearest σ = some r_) : CI g l yX3_nearest (ws_ yX3_nearest cX3_nearest 3 (some .int)) 2 60 0 0 [.ref (L 60 0)] L σ r_ σ := by
  refine wbody.met (by decide) (Nat.le_of_ble_eq_true rfl) ?_
  intro p e s m args below meth c ls hx hb hr hml hlocks hts hown hnm hW hl
  have hown : s.vm.findClass RX3 = some m.cls := hown
  have hl : lv_has ls 3 [(0, .ref (L 60 0))] := hl
  unfold m_X3_nearest at hs
  have hL4 : ∀ (n4 : Nat), ∀ (σ : st_T) (x1 : Int32) (x2 : Int32) (H : Heap) (locs : List Loc) (ls : Array Slot), wv g L σ s H locs → lv_has ls 3 [(0, .ref (L 60 0)), (1, .int x1), (2, .int x2)] → (m_X3_nearest_L4 n4) σ x1 x2 = some r_ → W p l e (wrm 2 60 0 0) s m args below meth c H locs 0 0 (MQ below (wQi g L r_ σ) args s 0 0 (fun q => gz g ≤ q)) (F0 m 4 ls []) := by
    intro n4
    induction n4 with
    | zero => intro σ x1 x2 H locs ls hW hl hs; rw [m_X3_nearest_L4] at hs; cases hs
    | succ n4 ih4 =>
      have hL52 : ∀ (σ : st_T) (x1 : Int32) (x2 : Int32) (H : Heap) (locs : List Loc) (ls : Array Slot), wv g L σ s H locs → lv_has ls 3 [(0, .ref (L 60 0)), (1, .int x1), (2, .int x2)] → (m_X3_nearest_L52 (m_X3_nearest_L4 n4)) σ x1 x2 = some r_ → W p l e (wrm 2 60 0 0) s m args below meth c H locs 0 0 (MQ below (wQi g L r_ σ) args s 0 0 (fun q => gz g ≤ q)) (F0 m 52 ls []) := by
        intro σ x1 x2 H locs ls hW hl hs
        unfold m_X3_nearest_L52 at hs
        refine lv_iinc (v := (x2 + (1 : Int32))) (lv' := [(2, .int (x2 + (1 : Int32))), (0, .ref (L 60 0)), (1, .int x1)]) hx hb dX3_nearest_52 hl (k := 2) rfl rfl (by decide) rfl (fun ls hl => ?_)
        refine lv_goto (tgt := 4) hx hb dX3_nearest_55 (by decide) ?_
        exact ih4 σ x1 (x2 + (1 : Int32)) _ _ ls hW (lv_sub hl [1, 2, 0] rfl) hs
      have hL50 : ∀ (σ : st_T) (x2 : Int32) (H : Heap) (locs : List Loc) (ls : Array Slot), wv g L σ s H locs → lv_has ls 3 [(0, .ref (L 60 0)), (2, .int x2)] → (m_X3_nearest_L50 (m_X3_nearest_L52 (m_X3_nearest_L4 n4))) σ x2 = some r_ → W p l e (wrm 2 60 0 0) s m args below meth c H locs 0 0 (MQ below (wQi g L r_ σ) args s 0 0 (fun q => gz g ≤ q)) (F0 m 50 ls []) := by
        intro σ x2 H locs ls hW hl hs
        unfold m_X3_nearest_L50 at hs
        refine lv_iload_n hx hb dX3_nearest_50 rfl (lv_at hl 1 rfl) ?_
        refine lv_istore_n (lv' := [(1, .int x2), (0, .ref (L 60 0)), (2, .int x2)]) hx hb dX3_nearest_51 rfl hl (by decide) rfl (fun ls hl => ?_)
        exact hL52 σ x2 x2 _ _ ls hW (lv_sub hl [1, 0, 2] rfl) hs
      intro σ x1 x2 H locs ls hW hl hs
      rw [m_X3_nearest_L4] at hs
      refine lv_iload_n hx hb dX3_nearest_4 rfl (lv_at hl 2 rfl) ?_
      refine lv_bipush (v := 64) hx hb dX3_nearest_5 (by decide) ?_
      refine lv_icmp_ge (tgt := 58) hx hb dX3_nearest_7 (by decide) (fun hc1 => ?_) (fun hc1 => ?_)
      · have hs := ww_T hs hc1
        refine lv_iload_n hx hb dX3_nearest_58 rfl (lv_at hl 1 rfl) ?_
        have hs := ww_S hs
        exact we_i hx hb hr hlocks hW hs rfl (Nat.le_of_ble_eq_true rfl) (Nat.le_of_ble_eq_true rfl) dX3_nearest_59
      · have hs := ww_F hs hc1
        refine lv_aload_n hx hb dX3_nearest_10 rfl (lv_at hl 0 rfl) ?_
        refine gf_X3_18 hx hb hts hown hW (pr_st (hW.rd hgm) (Nat.le_of_ble_eq_true rfl)) (hW.fl hgm (pr_st (hW.rd hgm) (Nat.le_of_ble_eq_true rfl)) 2 (by decide) rfl (by decide)) dX3_nearest_11 ?_
        refine lv_iload_n hx hb dX3_nearest_14 rfl (lv_at hl 2 rfl) ?_
        obtain ⟨hc2, hs⟩ := ww_chk hs
        refine ww_zald hx hb hW 63 0 (pr_st (hW.rd hgm) (Nat.le_of_ble_eq_true rfl)) rfl hc2 dX3_nearest_15 ?_
        refine lv_if_ne (tgt := 52) hx hb dX3_nearest_16 (by decide) (fun hc3 => ?_) (fun hc3 => ?_)
        · have hs := ww_F hs hc3
          exact hL52 σ x1 x2 _ _ ls hW (lv_sub hl [0, 1, 2] rfl) hs
        · have hs := ww_T hs hc3
          refine lv_aload_n hx hb dX3_nearest_19 rfl (lv_at hl 0 rfl) ?_
          refine gf_X3_9 hx hb hts hown hW (pr_st (hW.rd hgm) (Nat.le_of_ble_eq_true rfl)) (hW.fl hgm (pr_st (hW.rd hgm) (Nat.le_of_ble_eq_true rfl)) 0 (by decide) rfl (by decide)) dX3_nearest_20 ?_
          refine lv_iload_n hx hb dX3_nearest_23 rfl (lv_at hl 2 rfl) ?_
          refine ww_iald hx hb hW 61 0 (pr_st (hW.rd hgm) (Nat.le_of_ble_eq_true rfl)) rfl hc2 dX3_nearest_24 ?_
          refine lv_ldc hx hb hown (hts _ q541) dX3_nearest_25 ?_
          refine lv_icmp_ge (tgt := 52) hx hb dX3_nearest_27 (by decide) (fun hc4 => ?_) (fun hc4 => ?_)
          · have hs := ww_T hs hc4
            exact hL52 σ x1 x2 _ _ ls hW (lv_sub hl [0, 1, 2] rfl) hs
          · have hs := ww_F hs hc4
            refine lv_iload_n hx hb dX3_nearest_30 rfl (lv_at hl 1 rfl) ?_
            refine lv_iconst (v := (-1)) hx hb dX3_nearest_31 (by decide) ?_
            refine lv_icmp_eq (tgt := 50) hx hb dX3_nearest_32 (by decide) (fun hc5 => ?_) (fun hc5 => ?_)
            · have hs := ww_T hs hc5
              exact hL50 σ x2 _ _ ls hW (lv_sub hl [0, 2] rfl) hs
            · have hs := ww_F hs hc5
              refine lv_aload_n hx hb dX3_nearest_35 rfl (lv_at hl 0 rfl) ?_
              refine gf_X3_9 hx hb hts hown hW (pr_st (hW.rd hgm) (Nat.le_of_ble_eq_true rfl)) (hW.fl hgm (pr_st (hW.rd hgm) (Nat.le_of_ble_eq_true rfl)) 0 (by decide) rfl (by decide)) dX3_nearest_36 ?_
              refine lv_iload_n hx hb dX3_nearest_39 rfl (lv_at hl 2 rfl) ?_
              refine ww_iald hx hb hW 61 0 (pr_st (hW.rd hgm) (Nat.le_of_ble_eq_true rfl)) rfl hc2 dX3_nearest_40 ?_
              refine lv_aload_n hx hb dX3_nearest_41 rfl (lv_at hl 0 rfl) ?_
              refine gf_X3_9 hx hb hts hown hW (pr_st (hW.rd hgm) (Nat.le_of_ble_eq_true rfl)) (hW.fl hgm (pr_st (hW.rd hgm) (Nat.le_of_ble_eq_true rfl)) 0 (by decide) rfl (by decide)) dX3_nearest_42 ?_
              refine lv_iload_n hx hb dX3_nearest_45 rfl (lv_at hl 1 rfl) ?_
              obtain ⟨hc6, hs⟩ := ww_chk hs
              refine ww_iald hx hb hW 61 0 (pr_st (hW.rd hgm) (Nat.le_of_ble_eq_true rfl)) rfl hc6 dX3_nearest_46 ?_
              refine lv_icmp_ge (tgt := 52) hx hb dX3_nearest_47 (by decide) (fun hc7 => ?_) (fun hc7 => ?_)
              · have hs := ww_T hs hc7
                exact hL52 σ x1 x2 _ _ ls hW (lv_sub hl [0, 1, 2] rfl) hs
              · have hs := ww_F hs hc7
                exact hL50 σ x2 _ _ ls hW (lv_sub hl [0, 2] rfl) hs
  refine lv_iconst (v := (-1)) hx hb dX3_nearest_0 (by decide) ?_
  refine lv_istore_n (lv' := [(1, .int (-1 : Int32)), (0, .ref (L 60 0))]) hx hb dX3_nearest_1 rfl hl (by decide) rfl (fun ls hl => ?_)
  refine lv_iconst (v := 0) hx hb dX3_nearest_2 (by decide) ?_
  refine lv_istore_n (lv' := [(2, .int (0 : Int32)), (1, .int (-1 : Int32)), (0, .ref (L 60 0))]) hx hb dX3_nearest_3 rfl hl (by decide) rfl (fun ls hl => ?_)
  exact hL4 fu_ σ (-1 : Int32) (0 : Int32) _ _ ls hW (lv_sub hl [2, 1, 0] rfl) hs
set_option maxHeartbeats 4000000 in
theorem c_X4_from (g : wg_T) (hgm : gm g = true) (l : Launch) (L : ly_T) (σ : st_T) (a1 : Int32) (r2 : Nat) (i2 : Nat) (σ_ : st_T) (hs : m_X4_from σ a1 r2 i2 = some σ_) : CV g l yX4_from (ws_ yX4_from cX4_from 7 none) 3 83 0 0 [.ref (L 65 0), .int a1, .ref (L r2 i2)] L σ σ_ := by
  refine wbody.met (by decide) (Nat.le_of_ble_eq_true rfl) ?_
  intro p e s m args below meth c ls hx hb hr hml hlocks hts hown hnm hW hl
  have hown : s.vm.findClass RX4 = some m.cls := hown
  have hl : lv_has ls 7 [(0, .ref (L 65 0)), (1, .int a1), (2, .ref (L r2 i2))] := hl
  unfold m_X4_from at hs
  have hL2 : ∀ (n2 : Nat), ∀ (σ : st_T) (x1 : Int32) (x3 : Int32) (H : Heap) (locs : List Loc) (ls : Array Slot), wv g L σ s H locs → lv_has ls 7 [(0, .ref (L 65 0)), (1, .int x1), (2, .ref (L r2 i2)), (3, .int x3)] → (m_X4_from_L2 r2 i2 n2) σ x1 x3 = some σ_ → W p l e (wrm 3 83 0 0) s m args below meth c H locs 0 0 (MQ below (wQv g L σ_) args s 0 0 (fun q => gz g ≤ q)) (F0 m 2 ls []) := by
    intro n2
    induction n2 with
    | zero => intro σ x1 x3 H locs ls hW hl hs; rw [m_X4_from_L2] at hs; cases hs
    | succ n2 ih2 =>
      have hL48 : ∀ (n48 : Nat), ∀ (σ : st_T) (x3 : Int32) (x4 : Int32) (H : Heap) (locs : List Loc) (ls : Array Slot), wv g L σ s H locs → lv_has ls 7 [(0, .ref (L 65 0)), (2, .ref (L r2 i2)), (3, .int x3), (4, .int x4)] → (m_X4_from_L48 r2 i2 n48) σ x3 x4 = some σ_ → W p l e (wrm 3 83 0 0) s m args below meth c H locs 0 0 (MQ below (wQv g L σ_) args s 0 0 (fun q => gz g ≤ q)) (F0 m 48 ls []) := by
        intro n48
        induction n48 with
        | zero => intro σ x3 x4 H locs ls hW hl hs; rw [m_X4_from_L48] at hs; cases hs
        | succ n48 ih48 =>
          have hL57 : ∀ (n57 : Nat), ∀ (σ : st_T) (x3 : Int32) (x4 : Int32) (x5 : Int32) (H : Heap) (locs : List Loc) (ls : Array Slot), wv g L σ s H locs → lv_has ls 7 [(0, .ref (L 65 0)), (2, .ref (L r2 i2)), (3, .int x3), (4, .int x4), (5, .int x5)] → (m_X4_from_L57 r2 i2 (m_X4_from_L48 r2 i2 n48) n57) σ x3 x4 x5 = some σ_ → W p l e (wrm 3 83 0 0) s m args below meth c H locs 0 0 (MQ below (wQv g L σ_) args s 0 0 (fun q => gz g ≤ q)) (F0 m 57 ls []) := by
            intro n57
            induction n57 with
            | zero => intro σ x3 x4 x5 H locs ls hW hl hs; rw [m_X4_from_L57] at hs; cases hs
            | succ n57 ih57 =>
              have hL137 : ∀ (σ : st_T) (x3 : Int32) (x4 : Int32) (x5 : Int32) (H : Heap) (locs : List Loc) (ls : Array Slot), wv g L σ s H locs → lv_has ls 7 [(0, .ref (L 65 0)), (2, .ref (L r2 i2)), (3, .int x3), (4, .int x4), (5, .int x5)] → (m_X4_from_L137 r2 i2 (m_X4_from_L57 r2 i2 (m_X4_from_L48 r2 i2 n48) n57)) σ x3 x4 x5 = some σ_ → W p l e (wrm 3 83 0 0) s m args below meth c H locs 0 0 (MQ below (wQv g L σ_) args s 0 0 (fun q => gz g ≤ q)) (F0 m 137 ls []) := by
                intro σ x3 x4 x5 H locs ls hW hl hs
                unfold m_X4_from_L137 at hs
                refine lv_iinc (v := (x5 + (1 : Int32))) (lv' := [(5, .int (x5 + (1 : Int32))), (0, .ref (L 65 0)), (2, .ref (L r2 i2)), (3, .int x3), (4, .int x4)]) hx hb dX4_from_137 hl (k := 4) rfl rfl (by decide) rfl (fun ls hl => ?_)
                refine lv_goto (tgt := 57) hx hb dX4_from_140 (by decide) ?_
                exact ih57 σ x3 x4 (x5 + (1 : Int32)) _ _ ls hW (lv_sub hl [1, 2, 3, 4, 0] rfl) hs
              intro σ x3 x4 x5 H locs ls hW hl hs
              rw [m_X4_from_L57] at hs
              refine lv_iload hx hb dX4_from_57 (lv_at hl 4 rfl) ?_
              refine lv_iconst (v := 4) hx hb dX4_from_59 (by decide) ?_
              refine lv_icmp_ge (tgt := 143) hx hb dX4_from_60 (by decide) (fun hc1 => ?_) (fun hc1 => ?_)
              · have hs := ww_T hs hc1
                refine lv_iinc (v := (x4 + (1 : Int32))) (lv' := [(4, .int (x4 + (1 : Int32))), (0, .ref (L 65 0)), (2, .ref (L r2 i2)), (3, .int x3), (5, .int x5)]) hx hb dX4_from_143 hl (k := 3) rfl rfl (by decide) rfl (fun ls hl => ?_)
                refine lv_goto (tgt := 48) hx hb dX4_from_146 (by decide) ?_
                exact ih48 σ x3 (x4 + (1 : Int32)) _ _ ls hW (lv_sub hl [1, 2, 3, 0] rfl) hs
              · have hs := ww_F hs hc1
                refine lv_aload_n hx hb dX4_from_63 rfl (lv_at hl 0 rfl) ?_
                refine gf_X4_15 hx hb hts hown hW (pr_st (hW.rd hgm) (Nat.le_of_ble_eq_true rfl)) (hW.fl hgm (pr_st (hW.rd hgm) (Nat.le_of_ble_eq_true rfl)) 1 (by decide) rfl (by decide)) dX4_from_64 ?_
                refine lv_iload hx hb dX4_from_67 (lv_at hl 3 rfl) ?_
                obtain ⟨hc2, hs⟩ := ww_chk hs
                refine ww_iald hx hb hW 67 0 (pr_st (hW.rd hgm) (Nat.le_of_ble_eq_true rfl)) rfl hc2 dX4_from_69 ?_
                refine lv_iload hx hb dX4_from_70 (lv_at hl 4 rfl) ?_
                obtain ⟨v5, hc3, hs⟩ := ww_bnd hs
                refine ww_ci (va_runSN (As := [.int (gA_ σ 67 0 x4.toNatClampNeg), .int x5]) (rest := []) ⟨hx, hb, hml, hown, hts⟩ (c_X1_next g hgm l L σ (gA_ σ 67 0 x4.toNatClampNeg) x5 _ hc3) ⟨va_cnB 2 hts (lw_meth q509) rfl rfl rfl (hW.nw 69 rfl) (hts _ q111) hd_X1_next.2 ⟨(Nat.le_of_ble_eq_true rfl), (Nat.le_of_ble_eq_true rfl)⟩, hts _ q508, trivial⟩ (ww_preS hW) rfl rfl hl.1 rfl (lv_room (Nat.le_of_ble_eq_true rfl)) dX4_from_72 ⟨Nat.le_of_ble_eq_true rfl, Nat.le_of_ble_eq_true rfl⟩) hW (fun H locs hW => ?_)
                refine lv_istore (lv' := [(6, .int v5), (0, .ref (L 65 0)), (2, .ref (L r2 i2)), (3, .int x3), (4, .int x4), (5, .int x5)]) hx hb dX4_from_75 hl (by decide) rfl (fun ls hl => ?_)
                refine lv_iload hx hb dX4_from_77 (lv_at hl 0 rfl) ?_
                refine lv_iconst (v := (-1)) hx hb dX4_from_79 (by decide) ?_
                refine lv_icmp_eq (tgt := 137) hx hb dX4_from_80 (by decide) (fun hc6 => ?_) (fun hc6 => ?_)
                · have hs := ww_T hs hc6
                  exact hL137 σ x3 x4 x5 _ _ ls hW (lv_sub hl [1, 2, 3, 4, 5] rfl) hs
                · have hs := ww_F hs hc6
                  refine lv_aload_n hx hb dX4_from_83 rfl (lv_at hl 2 rfl) ?_
                  refine lv_iload hx hb dX4_from_84 (lv_at hl 0 rfl) ?_
                  obtain ⟨hc7, hs⟩ := ww_chk hs
                  obtain ⟨hc8, hs⟩ := ww_chk hs
                  refine ww_zald hx hb hW r2 i2 hc7.2 hc7.1 hc8 dX4_from_86 ?_
                  refine lv_if_ne (tgt := 137) hx hb dX4_from_87 (by decide) (fun hc9 => ?_) (fun hc9 => ?_)
                  · have hs := ww_F hs hc9
                    exact hL137 σ x3 x4 x5 _ _ ls hW (lv_sub hl [1, 2, 3, 4, 5] rfl) hs
                  · have hs := ww_T hs hc9
                    refine lv_aload_n hx hb dX4_from_90 rfl (lv_at hl 1 rfl) ?_
                    refine gf_X4_9 hx hb hts hown hW (pr_st (hW.rd hgm) (Nat.le_of_ble_eq_true rfl)) (hW.fl hgm (pr_st (hW.rd hgm) (Nat.le_of_ble_eq_true rfl)) 0 (by decide) rfl (by decide)) dX4_from_91 ?_
                    refine lv_iload hx hb dX4_from_94 (lv_at hl 0 rfl) ?_
                    refine ww_iald hx hb hW 66 0 (pr_st (hW.rd hgm) (Nat.le_of_ble_eq_true rfl)) rfl hc8 dX4_from_96 ?_
                    refine lv_ldc hx hb hown (hts _ q1512) dX4_from_97 ?_
                    refine lv_icmp_ge (tgt := 105) hx hb dX4_from_99 (by decide) (fun hc10 => ?_) (fun hc10 => ?_)
                    · have hs := ww_T hs hc10
                      refine lv_aload_n hx hb dX4_from_105 rfl (lv_at hl 1 rfl) ?_
                      refine gf_X4_9 hx hb hts hown hW (pr_st (hW.rd hgm) (Nat.le_of_ble_eq_true rfl)) (hW.fl hgm (pr_st (hW.rd hgm) (Nat.le_of_ble_eq_true rfl)) 0 (by decide) rfl (by decide)) dX4_from_106 ?_
                      refine lv_iload hx hb dX4_from_109 (lv_at hl 0 rfl) ?_
                      refine lv_aload_n hx hb dX4_from_111 rfl (lv_at hl 1 rfl) ?_
                      refine gf_X4_9 hx hb hts hown hW (pr_st (hW.rd hgm) (Nat.le_of_ble_eq_true rfl)) (hW.fl hgm (pr_st (hW.rd hgm) (Nat.le_of_ble_eq_true rfl)) 0 (by decide) rfl (by decide)) dX4_from_112 ?_
                      refine lv_aload_n hx hb dX4_from_115 rfl (lv_at hl 1 rfl) ?_
                      refine gf_X4_15 hx hb hts hown hW (pr_st (hW.rd hgm) (Nat.le_of_ble_eq_true rfl)) (hW.fl hgm (pr_st (hW.rd hgm) (Nat.le_of_ble_eq_true rfl)) 1 (by decide) rfl (by decide)) dX4_from_116 ?_
                      refine lv_iload hx hb dX4_from_119 (lv_at hl 4 rfl) ?_
                      refine ww_iald hx hb hW 67 0 (pr_st (hW.rd hgm) (Nat.le_of_ble_eq_true rfl)) rfl hc2 dX4_from_121 ?_
                      obtain ⟨hc11, hs⟩ := ww_chk hs
                      refine ww_iald hx hb hW 66 0 (pr_st (hW.rd hgm) (Nat.le_of_ble_eq_true rfl)) rfl hc11 dX4_from_122 ?_
                      refine lv_iconst (v := 1) hx hb dX4_from_123 (by decide) ?_
                      refine lv_iadd hx hb dX4_from_124 ?_
                      obtain ⟨σ12, e13, hs⟩ := ww_let hs
                      refine ww_iast hx hb hW 66 0 (pr_st (hW.rd hgm) (Nat.le_of_ble_eq_true rfl)) rfl hc8 dX4_from_125 (fun H locs hW => ?_)
                      have hW : wv g L σ12 s H locs := by rw [e13]; exact hW
                      refine lv_aload_n hx hb dX4_from_126 rfl (lv_at hl 1 rfl) ?_
                      refine gf_X4_15 hx hb hts hown hW (pr_st (hW.rd hgm) (Nat.le_of_ble_eq_true rfl)) (hW.fl hgm (pr_st (hW.rd hgm) (Nat.le_of_ble_eq_true rfl)) 1 (by decide) rfl (by decide)) dX4_from_127 ?_
                      refine lv_iload_n hx hb dX4_from_130 rfl (lv_at hl 3 rfl) ?_
                      refine lv_iinc (v := (x3 + (1 : Int32))) (lv' := [(3, .int (x3 + (1 : Int32))), (6, .int v5), (0, .ref (L 65 0)), (2, .ref (L r2 i2)), (4, .int x4), (5, .int x5)]) hx hb dX4_from_131 hl (k := 3) rfl rfl (by decide) rfl (fun ls hl => ?_)
                      refine lv_iload hx hb dX4_from_134 (lv_at hl 1 rfl) ?_
                      obtain ⟨hc14, hs⟩ := ww_chk hs
                      obtain ⟨σ15, e16, hs⟩ := ww_let hs
                      refine ww_iast hx hb hW 67 0 (pr_st (hW.rd hgm) (Nat.le_of_ble_eq_true rfl)) rfl hc14 dX4_from_136 (fun H locs hW => ?_)
                      have hW : wv g L σ15 s H locs := by rw [e16]; exact hW
                      exact hL137 σ15 (x3 + (1 : Int32)) x4 x5 _ _ ls hW (lv_sub hl [2, 3, 0, 4, 5] rfl) hs
                    · have hs := ww_F hs hc10
                      refine lv_goto (tgt := 137) hx hb dX4_from_102 (by decide) ?_
                      exact hL137 σ x3 x4 x5 _ _ ls hW (lv_sub hl [1, 2, 3, 4, 5] rfl) hs
          intro σ x3 x4 H locs ls hW hl hs
          rw [m_X4_from_L48] at hs
          refine lv_iload hx hb dX4_from_48 (lv_at hl 3 rfl) ?_
          refine lv_iload_n hx hb dX4_from_50 rfl (lv_at hl 2 rfl) ?_
          refine lv_icmp_ge (tgt := 149) hx hb dX4_from_51 (by decide) (fun hc17 => ?_) (fun hc17 => ?_)
          · have hs := ww_T hs hc17
            have hs := ww_S hs
            exact we_v hx hb hr hlocks hW hs (Nat.le_of_ble_eq_true rfl) (Nat.le_of_ble_eq_true rfl) dX4_from_149
          · have hs := ww_F hs hc17
            refine lv_iconst (v := 0) hx hb dX4_from_54 (by decide) ?_
            refine lv_istore (lv' := [(5, .int (0 : Int32)), (0, .ref (L 65 0)), (2, .ref (L r2 i2)), (3, .int x3), (4, .int x4)]) hx hb dX4_from_55 hl (by decide) rfl (fun ls hl => ?_)
            exact hL57 fu_ σ x3 x4 (0 : Int32) _ _ ls hW (lv_sub hl [1, 2, 3, 4, 0] rfl) hs
      intro σ x1 x3 H locs ls hW hl hs
      rw [m_X4_from_L2] at hs
      refine lv_iload_n hx hb dX4_from_2 rfl (lv_at hl 3 rfl) ?_
      refine lv_bipush (v := 64) hx hb dX4_from_3 (by decide) ?_
      refine lv_icmp_ge (tgt := 22) hx hb dX4_from_5 (by decide) (fun hc18 => ?_) (fun hc18 => ?_)
      · have hs := ww_T hs hc18
        refine lv_aload_n hx hb dX4_from_22 rfl (lv_at hl 2 rfl) ?_
        refine lv_iload_n hx hb dX4_from_23 rfl (lv_at hl 1 rfl) ?_
        obtain ⟨hc19, hs⟩ := ww_chk hs
        obtain ⟨hc20, hs⟩ := ww_chk hs
        refine ww_zald hx hb hW r2 i2 hc19.2 hc19.1 hc20 dX4_from_24 ?_
        refine lv_if_eq (tgt := 29) hx hb dX4_from_25 (by decide) (fun hc21 => ?_) (fun hc21 => ?_)
        · have hs := ww_T hs hc21
          refine lv_aload_n hx hb dX4_from_29 rfl (lv_at hl 0 rfl) ?_
          refine gf_X4_9 hx hb hts hown hW (pr_st (hW.rd hgm) (Nat.le_of_ble_eq_true rfl)) (hW.fl hgm (pr_st (hW.rd hgm) (Nat.le_of_ble_eq_true rfl)) 0 (by decide) rfl (by decide)) dX4_from_30 ?_
          refine lv_iload_n hx hb dX4_from_33 rfl (lv_at hl 1 rfl) ?_
          refine lv_iconst (v := 0) hx hb dX4_from_34 (by decide) ?_
          obtain ⟨σ22, e23, hs⟩ := ww_let hs
          refine ww_iast hx hb hW 66 0 (pr_st (hW.rd hgm) (Nat.le_of_ble_eq_true rfl)) rfl hc20 dX4_from_35 (fun H locs hW => ?_)
          have hW : wv g L σ22 s H locs := by rw [e23]; exact hW
          refine lv_aload_n hx hb dX4_from_36 rfl (lv_at hl 0 rfl) ?_
          refine gf_X4_15 hx hb hts hown hW (pr_st (hW.rd hgm) (Nat.le_of_ble_eq_true rfl)) (hW.fl hgm (pr_st (hW.rd hgm) (Nat.le_of_ble_eq_true rfl)) 1 (by decide) rfl (by decide)) dX4_from_37 ?_
          refine lv_iconst (v := 0) hx hb dX4_from_40 (by decide) ?_
          refine lv_iload_n hx hb dX4_from_41 rfl (lv_at hl 1 rfl) ?_
          obtain ⟨σ24, e25, hs⟩ := ww_let hs
          refine ww_iast hx hb hW 67 0 (pr_st (hW.rd hgm) (Nat.le_of_ble_eq_true rfl)) rfl (vin_lit rfl) dX4_from_42 (fun H locs hW => ?_)
          have hW : wv g L σ24 s H locs := by rw [e25]; exact hW
          refine lv_iconst (v := 1) hx hb dX4_from_43 (by decide) ?_
          refine lv_istore_n (lv' := [(3, .int (1 : Int32)), (0, .ref (L 65 0)), (1, .int x1), (2, .ref (L r2 i2))]) hx hb dX4_from_44 rfl hl (by decide) rfl (fun ls hl => ?_)
          refine lv_iconst (v := 0) hx hb dX4_from_45 (by decide) ?_
          refine lv_istore (lv' := [(4, .int (0 : Int32)), (3, .int (1 : Int32)), (0, .ref (L 65 0)), (1, .int x1), (2, .ref (L r2 i2))]) hx hb dX4_from_46 hl (by decide) rfl (fun ls hl => ?_)
          exact hL48 fu_ σ24 (1 : Int32) (0 : Int32) _ _ ls hW (lv_sub hl [2, 4, 1, 0] rfl) hs
        · have hs := ww_F hs hc21
          have hs := ww_S hs
          exact we_v hx hb hr hlocks hW hs (Nat.le_of_ble_eq_true rfl) (Nat.le_of_ble_eq_true rfl) dX4_from_28
      · have hs := ww_F hs hc18
        refine lv_aload_n hx hb dX4_from_8 rfl (lv_at hl 0 rfl) ?_
        refine gf_X4_9 hx hb hts hown hW (pr_st (hW.rd hgm) (Nat.le_of_ble_eq_true rfl)) (hW.fl hgm (pr_st (hW.rd hgm) (Nat.le_of_ble_eq_true rfl)) 0 (by decide) rfl (by decide)) dX4_from_9 ?_
        refine lv_iload_n hx hb dX4_from_12 rfl (lv_at hl 3 rfl) ?_
        refine lv_ldc hx hb hown (hts _ q1512) dX4_from_13 ?_
        obtain ⟨hc26, hs⟩ := ww_chk hs
        obtain ⟨σ27, e28, hs⟩ := ww_let hs
        refine ww_iast hx hb hW 66 0 (pr_st (hW.rd hgm) (Nat.le_of_ble_eq_true rfl)) rfl hc26 dX4_from_15 (fun H locs hW => ?_)
        have hW : wv g L σ27 s H locs := by rw [e28]; exact hW
        refine lv_iinc (v := (x3 + (1 : Int32))) (lv' := [(3, .int (x3 + (1 : Int32))), (0, .ref (L 65 0)), (1, .int x1), (2, .ref (L r2 i2))]) hx hb dX4_from_16 hl (k := 3) rfl rfl (by decide) rfl (fun ls hl => ?_)
        refine lv_goto (tgt := 2) hx hb dX4_from_19 (by decide) ?_
        exact ih2 σ27 x1 (x3 + (1 : Int32)) _ _ ls hW (lv_sub hl [1, 2, 3, 0] rfl) hs
  refine lv_iconst (v := 0) hx hb dX4_from_0 (by decide) ?_
  refine lv_istore_n (lv' := [(3, .int (0 : Int32)), (0, .ref (L 65 0)), (1, .int a1), (2, .ref (L r2 i2))]) hx hb dX4_from_1 rfl hl (by decide) rfl (fun ls hl => ?_)
  exact hL2 fu_ σ a1 (0 : Int32) _ _ ls hW (lv_sub hl [1, 2, 3, 0] rfl) hs
set_option maxHeartbeats 4000000 in
theorem c_X5_like (g : wg_T) (hgm : gm g = true) (l : Launch) (L : ly_T) (σ : st_T) (i0 : Nat) (a1 : Int32) (a2 : Int32) (r_ : Int32) (hs : m_X5_like σ i0 a1 a2 = some r_) : CI g l yX5_like (ws_ yX5_like cX5_like 3 (some .int)) 2 60 0 0 [.ref (L 87 i0), .int a1, .int a2] L σ r_ σ := by
  refine wbody.met (by decide) (Nat.le_of_ble_eq_true rfl) ?_
  intro p e s m args below meth c ls hx hb hr hml hlocks hts hown hnm hW hl
  have hown : s.vm.findClass RX5 = some m.cls := hown
  have hl : lv_has ls 3 [(0, .ref (L 87 i0)), (1, .int a1), (2, .int a2)] := hl
  unfold m_X5_like at hs
  refine lv_aload_n hx hb dX5_like_0 rfl (lv_at hl 0 rfl) ?_
  obtain ⟨hc1, hs⟩ := ww_chk hs
  refine gf_X5_17 hx hb hts hown hW (pr_dy hc1 rfl rfl) (hW.fl hgm (pr_dy hc1 rfl rfl) 1 (by decide) rfl (by decide)) dX5_like_1 ?_
  refine lv_iload_n hx hb dX5_like_4 rfl (lv_at hl 1 rfl) ?_
  obtain ⟨hc2, hs⟩ := ww_chk hs
  obtain ⟨hc3, hs⟩ := ww_chk hs
  refine ww_aaldI hx hb hW 88 i0 (pr_dy hc2 rfl rfl) rfl hc3 dX5_like_5 ?_
  refine lv_iload_n hx hb dX5_like_6 rfl (lv_at hl 2 rfl) ?_
  refine lv_aload_n hx hb dX5_like_7 rfl (lv_at hl 0 rfl) ?_
  refine gf_X5_20 hx hb hts hown hW (pr_dy hc1 rfl rfl) (hW.fl hgm (pr_dy hc1 rfl rfl) 2 (by decide) rfl (by decide)) dX5_like_8 ?_
  refine lv_iload_n hx hb dX5_like_11 rfl (lv_at hl 1 rfl) ?_
  obtain ⟨hc4, hs⟩ := ww_chk hs
  refine ww_iald hx hb hW 90 i0 (pr_dy hc4 rfl rfl) rfl hc3 dX5_like_12 ?_
  refine lv_iconst (v := 1) hx hb dX5_like_13 (by decide) ?_
  refine lv_isub hx hb dX5_like_14 ?_
  refine va_mmin hx hb (hml.trans hl.1.symm) hown (hts _ q572) (hts _ q505) (hts _ q134) (hts _ q506) (Nat.le_of_ble_eq_true rfl) (Nat.le_of_ble_eq_true rfl) (Nat.le_of_ble_eq_true rfl) (Nat.le_of_ble_eq_true rfl) dX5_like_15 ?_
  obtain ⟨hc5, hs⟩ := ww_chk hs
  refine ww_iald hx hb hW 89 (4 * i0 + a1.toNatClampNeg) (pr_mul hc2 hc3 rfl rfl) rfl hc5 dX5_like_18 ?_
  have hs := ww_S hs
  exact we_i hx hb hr hlocks hW hs rfl (Nat.le_of_ble_eq_true rfl) (Nat.le_of_ble_eq_true rfl) dX5_like_19
set_option maxHeartbeats 4000000 in
theorem c_X5_now (g : wg_T) (hgm : gm g = true) (l : Launch) (L : ly_T) (σ : st_T) (i0 : Nat) (r_ : Int32) (σ_ : st_T) (hs : m_X5_now σ i0 = some (r_, σ_)) : CI g l yX5_now (ws_ yX5_now cX5_now 1 (some .int)) 2 60 0 0 [.ref (L 87 i0)] L σ r_ σ_ := by
  refine wbody.met (by decide) (Nat.le_of_ble_eq_true rfl) ?_
  intro p e s m args below meth c ls hx hb hr hml hlocks hts hown hnm hW hl
  have hown : s.vm.findClass RX5 = some m.cls := hown
  have hl : lv_has ls 1 [(0, .ref (L 87 i0))] := hl
  unfold m_X5_now at hs
  have hL0 : ∀ (n0 : Nat), ∀ (σ : st_T)  (H : Heap) (locs : List Loc) (ls : Array Slot), wv g L σ s H locs → lv_has ls 1 [(0, .ref (L 87 i0))] → (m_X5_now_L0 i0 n0) σ = some (r_, σ_) → W p l e (wrm 2 60 0 0) s m args below meth c H locs 0 0 (MQ below (wQi g L r_ σ_) args s 0 0 (fun q => gz g ≤ q)) (F0 m 0 ls []) := by
    intro n0
    induction n0 with
    | zero => intro σ H locs ls hW hl hs; rw [m_X5_now_L0] at hs; cases hs
    | succ n0 ih0 =>
      have hL41 : ∀ (σ : st_T)  (H : Heap) (locs : List Loc) (ls : Array Slot), wv g L σ s H locs → lv_has ls 1 [(0, .ref (L 87 i0))] → (m_X5_now_L41 i0) σ = some (r_, σ_) → W p l e (wrm 2 60 0 0) s m args below meth c H locs 0 0 (MQ below (wQi g L r_ σ_) args s 0 0 (fun q => gz g ≤ q)) (F0 m 41 ls []) := by
        have hL72 : ∀ (σ : st_T) (t0 : Int32) (H : Heap) (locs : List Loc) (ls : Array Slot), wv g L σ s H locs → lv_has ls 1 [] → (m_X5_now_L72 i0) σ t0 = some (r_, σ_) → W p l e (wrm 2 60 0 0) s m args below meth c H locs 0 0 (MQ below (wQi g L r_ σ_) args s 0 0 (fun q => gz g ≤ q)) (F0 m 72 ls [.int t0]) := by
          intro σ t0 H locs ls hW hl hs
          unfold m_X5_now_L72 at hs
          have hs := ww_S hs
          exact we_i hx hb hr hlocks hW (congrArg Prod.fst hs) (congrArg Prod.snd hs) (Nat.le_of_ble_eq_true rfl) (Nat.le_of_ble_eq_true rfl) dX5_now_72
        intro σ H locs ls hW hl hs
        unfold m_X5_now_L41 at hs
        refine lv_aload_n hx hb dX5_now_41 rfl (lv_at hl 0 rfl) ?_
        obtain ⟨hc1, hs⟩ := ww_chk hs
        refine gf_X5_111 hx hb hts hown hW (pr_dy hc1 rfl rfl) dX5_now_42 ?_
        refine lv_aload_n hx hb dX5_now_45 rfl (lv_at hl 0 rfl) ?_
        refine gf_X5_54 hx hb hts hown hW (pr_dy hc1 rfl rfl) dX5_now_46 ?_
        refine lv_icmp_ge (tgt := 71) hx hb dX5_now_49 (by decide) (fun hc2 => ?_) (fun hc2 => ?_)
        · have hs := ww_T hs hc2
          refine lv_iconst (v := (-1)) hx hb dX5_now_71 (by decide) ?_
          exact hL72 σ (-1 : Int32) _ _ ls hW (lv_sub hl [] rfl) hs
        · have hs := ww_F hs hc2
          refine lv_aload_n hx hb dX5_now_52 rfl (lv_at hl 0 rfl) ?_
          refine gf_X5_3 hx hb hts hown hW (pr_dy hc1 rfl rfl) (hW.fl hgm (pr_dy hc1 rfl rfl) 11 (by decide) rfl (by decide)) dX5_now_53 ?_
          refine gf_X5_148 hx hb hts hown hW (pr_st (hW.rd hgm) (Nat.le_of_ble_eq_true rfl)) (hW.fl hgm (pr_st (hW.rd hgm) (Nat.le_of_ble_eq_true rfl)) 0 (by decide) rfl (by decide)) dX5_now_56 ?_
          refine lv_aload_n hx hb dX5_now_59 rfl (lv_at hl 0 rfl) ?_
          refine gf_X5_111 hx hb hts hown hW (pr_dy hc1 rfl rfl) dX5_now_60 ?_
          obtain ⟨hc3, hs⟩ := ww_chk hs
          refine ww_bald hx hb hW 10 0 (pr_st (hW.rd hgm) (Nat.le_of_ble_eq_true rfl)) rfl hc3 dX5_now_63 ?_
          refine lv_sipush (v := 255) hx hb dX5_now_64 (by decide) ?_
          refine lv_iand hx hb dX5_now_67 ?_
          refine lv_goto (tgt := 72) hx hb dX5_now_68 (by decide) ?_
          exact hL72 σ ((gA_ σ 10 0 (gF_ σ 87 8 i0).toNatClampNeg) &&& (255 : Int32)) _ _ ls hW (lv_sub hl [] rfl) hs
      intro σ H locs ls hW hl hs
      rw [m_X5_now_L0] at hs
      refine lv_aload_n hx hb dX5_now_0 rfl (lv_at hl 0 rfl) ?_
      obtain ⟨hc4, hs⟩ := ww_chk hs
      refine gf_X5_111 hx hb hts hown hW (pr_dy hc4 rfl rfl) dX5_now_1 ?_
      refine lv_aload_n hx hb dX5_now_4 rfl (lv_at hl 0 rfl) ?_
      refine gf_X5_54 hx hb hts hown hW (pr_dy hc4 rfl rfl) dX5_now_5 ?_
      refine lv_icmp_ge (tgt := 41) hx hb dX5_now_8 (by decide) (fun hc5 => ?_) (fun hc5 => ?_)
      · have hs := ww_T hs hc5
        exact hL41 σ _ _ ls hW (lv_sub hl [0] rfl) hs
      · have hs := ww_F hs hc5
        refine lv_aload_n hx hb dX5_now_11 rfl (lv_at hl 0 rfl) ?_
        refine gf_X5_3 hx hb hts hown hW (pr_dy hc4 rfl rfl) (hW.fl hgm (pr_dy hc4 rfl rfl) 11 (by decide) rfl (by decide)) dX5_now_12 ?_
        refine gf_X5_148 hx hb hts hown hW (pr_st (hW.rd hgm) (Nat.le_of_ble_eq_true rfl)) (hW.fl hgm (pr_st (hW.rd hgm) (Nat.le_of_ble_eq_true rfl)) 0 (by decide) rfl (by decide)) dX5_now_15 ?_
        refine lv_aload_n hx hb dX5_now_18 rfl (lv_at hl 0 rfl) ?_
        refine gf_X5_111 hx hb hts hown hW (pr_dy hc4 rfl rfl) dX5_now_19 ?_
        obtain ⟨hc6, hs⟩ := ww_chk hs
        refine ww_bald hx hb hW 10 0 (pr_st (hW.rd hgm) (Nat.le_of_ble_eq_true rfl)) rfl hc6 dX5_now_22 ?_
        refine lv_bipush (v := 32) hx hb dX5_now_23 (by decide) ?_
        refine lv_icmp_ne (tgt := 41) hx hb dX5_now_25 (by decide) (fun hc7 => ?_) (fun hc7 => ?_)
        · have hs := ww_F hs hc7
          exact hL41 σ _ _ ls hW (lv_sub hl [0] rfl) hs
        · have hs := ww_T hs hc7
          refine lv_aload_n hx hb dX5_now_28 rfl (lv_at hl 0 rfl) ?_
          refine lv_dup hx hb dX5_now_29 rfl ?_
          refine gf_X5_111 hx hb hts hown hW (pr_dy hc4 rfl rfl) dX5_now_30 ?_
          refine lv_iconst (v := 1) hx hb dX5_now_33 (by decide) ?_
          refine lv_iadd hx hb dX5_now_34 ?_
          obtain ⟨σ8, e9, hs⟩ := ww_let hs
          refine pf_X5_111 hx hb hts hown hW (pr_dy hc4 rfl rfl) dX5_now_35 (fun H locs hW => ?_)
          have hW : wv g L σ8 s H locs := by rw [e9]; exact hW
          have hc10 : i0 < gN_ σ8 87 := by rw [e9]; exact hc4
          refine lv_goto (tgt := 0) hx hb dX5_now_38 (by decide) ?_
          exact ih0 σ8 _ _ ls hW (lv_sub hl [0] rfl) hs
  exact hL0 fu_ σ _ _ ls hW (lv_sub hl [0] rfl) hs
set_option maxHeartbeats 4000000 in
theorem c_X5_isSmall (g : wg_T) (hgm : gm g = true) (l : Launch) (L : ly_T) (σ : st_T) (i0 : Nat) (a1 : Int32) (r_ : Int32) (hs : m_X5_isSmall σ i0 a1 = some r_) : CI g l yX5_isSmall (ws_ yX5_isSmall cX5_isSmall 2 (some .boolean)) 2 60 0 0 [.ref (L 87 i0), .int a1] L σ r_ σ := by
  refine wbody.met (by decide) (Nat.le_of_ble_eq_true rfl) ?_
  intro p e s m args below meth c ls hx hb hr hml hlocks hts hown hnm hW hl
  have hown : s.vm.findClass RX5 = some m.cls := hown
  have hl : lv_has ls 2 [(0, .ref (L 87 i0)), (1, .int a1)] := hl
  unfold m_X5_isSmall at hs
  have hL41 : ∀ (σ : st_T) (t0 : Int32) (H : Heap) (locs : List Loc) (ls : Array Slot), wv g L σ s H locs → lv_has ls 2 [] → (m_X5_isSmall_L41 i0) σ t0 = some r_ → W p l e (wrm 2 60 0 0) s m args below meth c H locs 0 0 (MQ below (wQi g L r_ σ) args s 0 0 (fun q => gz g ≤ q)) (F0 m 41 ls [.int t0]) := by
    intro σ t0 H locs ls hW hl hs
    unfold m_X5_isSmall_L41 at hs
    obtain ⟨hc1, hs⟩ := ww_chk hs
    have hs := ww_S hs
    exact we_z hx hb hr hlocks hW hc1 hs rfl (Nat.le_of_ble_eq_true rfl) (Nat.le_of_ble_eq_true rfl) dX5_isSmall_41
  have hL40 : ∀ (σ : st_T)  (H : Heap) (locs : List Loc) (ls : Array Slot), wv g L σ s H locs → lv_has ls 2 [] → (m_X5_isSmall_L40 i0 (m_X5_isSmall_L41 i0)) σ = some r_ → W p l e (wrm 2 60 0 0) s m args below meth c H locs 0 0 (MQ below (wQi g L r_ σ) args s 0 0 (fun q => gz g ≤ q)) (F0 m 40 ls []) := by
    intro σ H locs ls hW hl hs
    unfold m_X5_isSmall_L40 at hs
    refine lv_iconst (v := 0) hx hb dX5_isSmall_40 (by decide) ?_
    exact hL41 σ (0 : Int32) _ _ ls hW (lv_sub hl [] rfl) hs
  refine lv_iload_n hx hb dX5_isSmall_0 rfl (lv_at hl 1 rfl) ?_
  refine lv_aload_n hx hb dX5_isSmall_1 rfl (lv_at hl 0 rfl) ?_
  obtain ⟨hc2, hs⟩ := ww_chk hs
  refine gf_X5_54 hx hb hts hown hW (pr_dy hc2 rfl rfl) dX5_isSmall_2 ?_
  refine lv_icmp_ge (tgt := 40) hx hb dX5_isSmall_5 (by decide) (fun hc3 => ?_) (fun hc3 => ?_)
  · have hs := ww_T hs hc3
    exact hL40 σ _ _ ls hW (lv_sub hl [] rfl) hs
  · have hs := ww_F hs hc3
    refine lv_aload_n hx hb dX5_isSmall_8 rfl (lv_at hl 0 rfl) ?_
    refine gf_X5_3 hx hb hts hown hW (pr_dy hc2 rfl rfl) (hW.fl hgm (pr_dy hc2 rfl rfl) 11 (by decide) rfl (by decide)) dX5_isSmall_9 ?_
    refine gf_X5_148 hx hb hts hown hW (pr_st (hW.rd hgm) (Nat.le_of_ble_eq_true rfl)) (hW.fl hgm (pr_st (hW.rd hgm) (Nat.le_of_ble_eq_true rfl)) 0 (by decide) rfl (by decide)) dX5_isSmall_12 ?_
    refine lv_iload_n hx hb dX5_isSmall_15 rfl (lv_at hl 1 rfl) ?_
    obtain ⟨hc4, hs⟩ := ww_chk hs
    refine ww_bald hx hb hW 10 0 (pr_st (hW.rd hgm) (Nat.le_of_ble_eq_true rfl)) rfl hc4 dX5_isSmall_16 ?_
    refine lv_bipush (v := 97) hx hb dX5_isSmall_17 (by decide) ?_
    refine lv_icmp_lt (tgt := 40) hx hb dX5_isSmall_19 (by decide) (fun hc5 => ?_) (fun hc5 => ?_)
    · have hs := ww_T hs hc5
      exact hL40 σ _ _ ls hW (lv_sub hl [] rfl) hs
    · have hs := ww_F hs hc5
      refine lv_aload_n hx hb dX5_isSmall_22 rfl (lv_at hl 0 rfl) ?_
      refine gf_X5_3 hx hb hts hown hW (pr_dy hc2 rfl rfl) (hW.fl hgm (pr_dy hc2 rfl rfl) 11 (by decide) rfl (by decide)) dX5_isSmall_23 ?_
      refine gf_X5_148 hx hb hts hown hW (pr_st (hW.rd hgm) (Nat.le_of_ble_eq_true rfl)) (hW.fl hgm (pr_st (hW.rd hgm) (Nat.le_of_ble_eq_true rfl)) 0 (by decide) rfl (by decide)) dX5_isSmall_26 ?_
      refine lv_iload_n hx hb dX5_isSmall_29 rfl (lv_at hl 1 rfl) ?_
      refine ww_bald hx hb hW 10 0 (pr_st (hW.rd hgm) (Nat.le_of_ble_eq_true rfl)) rfl hc4 dX5_isSmall_30 ?_
      refine lv_bipush (v := 122) hx hb dX5_isSmall_31 (by decide) ?_
      refine lv_icmp_gt (tgt := 40) hx hb dX5_isSmall_33 (by decide) (fun hc6 => ?_) (fun hc6 => ?_)
      · have hs := ww_T hs hc6
        exact hL40 σ _ _ ls hW (lv_sub hl [] rfl) hs
      · have hs := ww_F hs hc6
        refine lv_iconst (v := 1) hx hb dX5_isSmall_36 (by decide) ?_
        refine lv_goto (tgt := 41) hx hb dX5_isSmall_37 (by decide) ?_
        exact hL41 σ (1 : Int32) _ _ ls hW (lv_sub hl [] rfl) hs
set_option maxHeartbeats 4000000 in
theorem c_X1_watch (g : wg_T) (hgm : gm g = true) (l : Launch) (L : ly_T) (σ : st_T) (i1 : Nat) (σ_ : st_T) (hs : m_X1_watch σ i1 = some σ_) : CV g l yX1_watch (ws_ yX1_watch cX1_watch 3 none) 4 107 0 0 [.ref (L 1 0), .ref (L 50 i1)] L σ σ_ := by
  refine wbody.met (by decide) (Nat.le_of_ble_eq_true rfl) ?_
  intro p e s m args below meth c ls hx hb hr hml hlocks hts hown hnm hW hl
  have hown : s.vm.findClass RX1 = some m.cls := hown
  have hl : lv_has ls 3 [(0, .ref (L 1 0)), (1, .ref (L 50 i1))] := hl
  unfold m_X1_watch at hs
  have hL2 : ∀ (n2 : Nat), ∀ (σ : st_T) (x2 : Int32) (H : Heap) (locs : List Loc) (ls : Array Slot), wv g L σ s H locs → lv_has ls 3 [(0, .ref (L 1 0)), (1, .ref (L 50 i1)), (2, .int x2)] → (m_X1_watch_L2 i1 n2) σ x2 = some σ_ → W p l e (wrm 4 107 0 0) s m args below meth c H locs 0 0 (MQ below (wQv g L σ_) args s 0 0 (fun q => gz g ≤ q)) (F0 m 2 ls []) := by
    intro n2
    induction n2 with
    | zero => intro σ x2 H locs ls hW hl hs; rw [m_X1_watch_L2] at hs; cases hs
    | succ n2 ih2 =>
      intro σ x2 H locs ls hW hl hs
      rw [m_X1_watch_L2] at hs
      refine lv_iload_n hx hb dX1_watch_2 rfl (lv_at hl 2 rfl) ?_
      refine lv_aload_n hx hb dX1_watch_3 rfl (lv_at hl 0 rfl) ?_
      refine gf_X1_296 hx hb hts hown hW (pr_st (hW.rd hgm) (Nat.le_of_ble_eq_true rfl)) dX1_watch_4 ?_
      refine lv_icmp_ge (tgt := 33) hx hb dX1_watch_7 (by decide) (fun hc1 => ?_) (fun hc1 => ?_)
      · have hs := ww_T hs hc1
        have hs := ww_S hs
        exact we_v hx hb hr hlocks hW hs (Nat.le_of_ble_eq_true rfl) (Nat.le_of_ble_eq_true rfl) dX1_watch_33
      · have hs := ww_F hs hc1
        refine lv_aload_n hx hb dX1_watch_10 rfl (lv_at hl 1 rfl) ?_
        refine lv_aload_n hx hb dX1_watch_11 rfl (lv_at hl 0 rfl) ?_
        refine gf_X1_91 hx hb hts hown hW (pr_st (hW.rd hgm) (Nat.le_of_ble_eq_true rfl)) (hW.fl hgm (pr_st (hW.rd hgm) (Nat.le_of_ble_eq_true rfl)) 12 (by decide) rfl (by decide)) dX1_watch_12 ?_
        refine lv_iload_n hx hb dX1_watch_15 rfl (lv_at hl 2 rfl) ?_
        obtain ⟨hc2, hs⟩ := ww_chk hs
        refine ww_iald hx hb hW 22 0 (pr_st (hW.rd hgm) (Nat.le_of_ble_eq_true rfl)) rfl hc2 dX1_watch_16 ?_
        refine lv_aload_n hx hb dX1_watch_17 rfl (lv_at hl 0 rfl) ?_
        refine gf_X1_156 hx hb hts hown hW (pr_st (hW.rd hgm) (Nat.le_of_ble_eq_true rfl)) (hW.fl hgm (pr_st (hW.rd hgm) (Nat.le_of_ble_eq_true rfl)) 31 (by decide) rfl (by decide)) dX1_watch_18 ?_
        obtain ⟨hc3, hs⟩ := ww_chk hs
        refine gf_X1_299 hx hb hts hown hW (pr_dy hc3 rfl rfl) dX1_watch_21 ?_
        obtain ⟨σ6, hc4, hs⟩ := ww_bnd hs
        obtain ⟨hc7, hs⟩ := ww_chk hs
        refine ww_cv (va_runV (As := [.int (gA_ σ 22 0 x2.toNatClampNeg), .int (gF_ σ 87 4 (gP_ σ 1 31 0))]) (rest := []) ⟨hx, hb, hml, hown, hts⟩ (c_X2_frightens g hgm l L σ i1 (gA_ σ 22 0 x2.toNatClampNeg) (gF_ σ 87 4 (gP_ σ 1 31 0)) _ hc4) (cwV 2 hts (lw_V q500 q501 q502 q112 q503) rfl rfl rfl hd_X2_frightens ⟨(Nat.le_of_ble_eq_true rfl), (Nat.le_of_ble_eq_true rfl)⟩) (ww_preV hW (pr_st (hW.rd hgm) hc7) (obv_0 rfl) rfl) rfl rfl hl.1 rfl (lv_room (Nat.le_of_ble_eq_true rfl)) dX1_watch_24 ⟨Nat.le_of_ble_eq_true rfl, Nat.le_of_ble_eq_true rfl⟩) hW (fun H locs hW => ?_)
        refine lv_iinc (v := (x2 + (1 : Int32))) (lv' := [(2, .int (x2 + (1 : Int32))), (0, .ref (L 1 0)), (1, .ref (L 50 i1))]) hx hb dX1_watch_27 hl (k := 2) rfl rfl (by decide) rfl (fun ls hl => ?_)
        refine lv_goto (tgt := 2) hx hb dX1_watch_30 (by decide) ?_
        exact ih2 σ6 (x2 + (1 : Int32)) _ _ ls hW (lv_sub hl [1, 2, 0] rfl) hs
  refine lv_iconst (v := 0) hx hb dX1_watch_0 (by decide) ?_
  refine lv_istore_n (lv' := [(2, .int (0 : Int32)), (0, .ref (L 1 0)), (1, .ref (L 50 i1))]) hx hb dX1_watch_1 rfl hl (by decide) rfl (fun ls hl => ?_)
  exact hL2 fu_ σ (0 : Int32) _ _ ls hW (lv_sub hl [1, 2, 0] rfl) hs
set_option maxHeartbeats 4000000 in
theorem c_X1_harms (g : wg_T) (hgm : gm g = true) (l : Launch) (L : ly_T) (σ : st_T) (i1 : Nat) (a2 : Int32) (a3 : Int32) (r_ : Int32) (σ_ : st_T) (hs : m_X1_harms σ i1 a2 a3 = some (r_, σ_)) : CI g l yX1_harms (ws_ yX1_harms cX1_harms 5 (some .int)) 3 83 0 0 [.ref (L 1 0), .ref (L 50 i1), .int a2, .int a3] L σ r_ σ_ := by
  refine wbody.met (by decide) (Nat.le_of_ble_eq_true rfl) ?_
  intro p e s m args below meth c ls hx hb hr hml hlocks hts hown hnm hW hl
  have hown : s.vm.findClass RX1 = some m.cls := hown
  have hl : lv_has ls 5 [(0, .ref (L 1 0)), (1, .ref (L 50 i1)), (2, .int a2), (3, .int a3)] := hl
  unfold m_X1_harms at hs
  refine lv_aload_n hx hb dX1_harms_0 rfl (lv_at hl 1 rfl) ?_
  obtain ⟨hc1, hs⟩ := ww_chk hs
  refine gf_X1_183 hx hb hts hown hW (pr_st (hW.rd hgm) hc1) (hW.fl hgm (pr_st (hW.rd hgm) hc1) 0 (by decide) rfl (by decide)) dX1_harms_1 ?_
  refine lv_iload_n hx hb dX1_harms_4 rfl (lv_at hl 2 rfl) ?_
  obtain ⟨hc2, hs⟩ := ww_chk hs
  refine ww_iald hx hb hW 51 i1 (pr_st (hW.rd hgm) hc1) rfl hc2 dX1_harms_5 ?_
  refine lv_iconst (v := 2) hx hb dX1_harms_6 (by decide) ?_
  refine lv_icmp_eq (tgt := 12) hx hb dX1_harms_7 (by decide) (fun hc3 => ?_) (fun hc3 => ?_)
  · have hs := ww_T hs hc3
    refine lv_aload_n hx hb dX1_harms_12 rfl (lv_at hl 1 rfl) ?_
    refine lv_iload_n hx hb dX1_harms_13 rfl (lv_at hl 2 rfl) ?_
    refine lv_iload_n hx hb dX1_harms_14 rfl (lv_at hl 3 rfl) ?_
    obtain ⟨v6, σ7, hc4, hs⟩ := ww_bn2 hs
    refine ww_ci (va_runV (As := [.int a2, .int a3]) (rest := []) ⟨hx, hb, hml, hown, hts⟩ (c_X2_loses g hgm l L σ i1 a2 a3 _ _ hc4) (cwV 2 hts (lw_V q587 q588 q589 q112 q590) rfl rfl rfl hd_X2_loses ⟨(Nat.le_of_ble_eq_true rfl), (Nat.le_of_ble_eq_true rfl)⟩) (ww_preV hW (pr_st (hW.rd hgm) hc1) (obv_0 rfl) rfl) rfl rfl hl.1 rfl (lv_room (Nat.le_of_ble_eq_true rfl)) dX1_harms_15 ⟨Nat.le_of_ble_eq_true rfl, Nat.le_of_ble_eq_true rfl⟩) hW (fun H locs hW => ?_)
    refine lv_istore (lv' := [(4, .int v6), (0, .ref (L 1 0)), (1, .ref (L 50 i1)), (2, .int a2), (3, .int a3)]) hx hb dX1_harms_18 hl (by decide) rfl (fun ls hl => ?_)
    refine lv_aload_n hx hb dX1_harms_20 rfl (lv_at hl 1 rfl) ?_
    refine gf_X1_121 hx hb hts hown hW (pr_st (hW.rd hgm) (Nat.le_of_ble_eq_true rfl)) (hW.fl hgm (pr_st (hW.rd hgm) (Nat.le_of_ble_eq_true rfl)) 22 (by decide) rfl (by decide)) dX1_harms_21 ?_
    refine lv_aload_n hx hb dX1_harms_24 rfl (lv_at hl 2 rfl) ?_
    refine gf_X1_222 hx hb hts hown hW (pr_st (hW.rd hgm) hc1) (hW.fl hgm (pr_st (hW.rd hgm) hc1) 1 (by decide) rfl (by decide)) dX1_harms_25 ?_
    refine lv_iload_n hx hb dX1_harms_28 rfl (lv_at hl 3 rfl) ?_
    refine ww_iald hx hb hW 52 i1 (pr_st (hW.rd hgm) hc1) rfl hc2 dX1_harms_29 ?_
    refine lv_dup2_11 hx hb dX1_harms_30 rfl rfl ?_
    obtain ⟨hc8, hs⟩ := ww_chk hs
    obtain ⟨hc9, hs⟩ := ww_chk hs
    refine ww_iald hx hb hW 32 (gP_ σ7 1 22 0) (pr_st (hW.rd hgm) hc8) rfl hc9 dX1_harms_31 ?_
    refine lv_iload hx hb dX1_harms_32 (lv_at hl 0 rfl) ?_
    refine lv_iadd hx hb dX1_harms_34 ?_
    obtain ⟨σ10, e11, hs⟩ := ww_let hs
    refine ww_iast hx hb hW 32 (gP_ σ7 1 22 0) (pr_st (hW.rd hgm) hc8) rfl hc9 dX1_harms_35 (fun H locs hW => ?_)
    have hW : wv g L σ10 s H locs := by rw [e11]; exact hW
    refine lv_iload hx hb dX1_harms_36 (lv_at hl 0 rfl) ?_
    have hs := ww_S hs
    exact we_i hx hb hr hlocks hW (congrArg Prod.fst hs) (congrArg Prod.snd hs) (Nat.le_of_ble_eq_true rfl) (Nat.le_of_ble_eq_true rfl) dX1_harms_38
  · have hs := ww_F hs hc3
    refine lv_iconst (v := 0) hx hb dX1_harms_10 (by decide) ?_
    have hs := ww_S hs
    exact we_i hx hb hr hlocks hW (congrArg Prod.fst hs) (congrArg Prod.snd hs) (Nat.le_of_ble_eq_true rfl) (Nat.le_of_ble_eq_true rfl) dX1_harms_11
set_option maxHeartbeats 4000000 in
theorem c_X1_turn (g : wg_T) (hgm : gm g = true) (l : Launch) (L : ly_T) (σ : st_T) (a1 : Int32) (r_ : Int32) (hs : m_X1_turn σ a1 = some r_) : CI g l yX1_turn (ws_ yX1_turn cX1_turn 5 (some .int)) 4 104 0 0 [.ref (L 1 0), .int a1] L σ r_ σ := by
  refine wbody.met (by decide) (Nat.le_of_ble_eq_true rfl) ?_
  intro p e s m args below meth c ls hx hb hr hml hlocks hts hown hnm hW hl
  have hown : s.vm.findClass RX1 = some m.cls := hown
  have hl : lv_has ls 5 [(0, .ref (L 1 0)), (1, .int a1)] := hl
  unfold m_X1_turn at hs
  have hL2 : ∀ (n2 : Nat), ∀ (σ : st_T) (x1 : Int32) (x2 : Int32) (H : Heap) (locs : List Loc) (ls : Array Slot), wv g L σ s H locs → lv_has ls 5 [(0, .ref (L 1 0)), (1, .int x1), (2, .int x2)] → (m_X1_turn_L2 n2) σ x1 x2 = some r_ → W p l e (wrm 4 104 0 0) s m args below meth c H locs 0 0 (MQ below (wQi g L r_ σ) args s 0 0 (fun q => gz g ≤ q)) (F0 m 2 ls []) := by
    intro n2
    induction n2 with
    | zero => intro σ x1 x2 H locs ls hW hl hs; rw [m_X1_turn_L2] at hs; cases hs
    | succ n2 ih2 =>
      have hL99 : ∀ (σ : st_T) (x1 : Int32) (x2 : Int32) (H : Heap) (locs : List Loc) (ls : Array Slot), wv g L σ s H locs → lv_has ls 5 [(0, .ref (L 1 0)), (1, .int x1), (2, .int x2)] → (m_X1_turn_L99 (m_X1_turn_L2 n2)) σ x1 x2 = some r_ → W p l e (wrm 4 104 0 0) s m args below meth c H locs 0 0 (MQ below (wQi g L r_ σ) args s 0 0 (fun q => gz g ≤ q)) (F0 m 99 ls []) := by
        intro σ x1 x2 H locs ls hW hl hs
        unfold m_X1_turn_L99 at hs
        refine lv_iinc (v := (x2 + (1 : Int32))) (lv' := [(2, .int (x2 + (1 : Int32))), (0, .ref (L 1 0)), (1, .int x1)]) hx hb dX1_turn_99 hl (k := 2) rfl rfl (by decide) rfl (fun ls hl => ?_)
        refine lv_goto (tgt := 2) hx hb dX1_turn_102 (by decide) ?_
        exact ih2 σ x1 (x2 + (1 : Int32)) _ _ ls hW (lv_sub hl [1, 2, 0] rfl) hs
      have hL24 : ∀ (n24 : Nat), ∀ (σ : st_T) (x1 : Int32) (x2 : Int32) (x3 : Int32) (x4 : Int32) (H : Heap) (locs : List Loc) (ls : Array Slot), wv g L σ s H locs → lv_has ls 5 [(0, .ref (L 1 0)), (1, .int x1), (2, .int x2), (3, .int x3), (4, .int x4)] → (m_X1_turn_L24 (m_X1_turn_L99 (m_X1_turn_L2 n2)) n24) σ x1 x2 x3 x4 = some r_ → W p l e (wrm 4 104 0 0) s m args below meth c H locs 0 0 (MQ below (wQi g L r_ σ) args s 0 0 (fun q => gz g ≤ q)) (F0 m 24 ls []) := by
        intro n24
        induction n24 with
        | zero => intro σ x1 x2 x3 x4 H locs ls hW hl hs; rw [m_X1_turn_L24] at hs; cases hs
        | succ n24 ih24 =>
          have hL84 : ∀ (σ : st_T) (x1 : Int32) (x2 : Int32) (x4 : Int32) (t0 : Int32) (t1 : Int32) (H : Heap) (locs : List Loc) (ls : Array Slot), wv g L σ s H locs → lv_has ls 5 [(0, .ref (L 1 0)), (1, .int x1), (2, .int x2), (4, .int x4)] → (m_X1_turn_L84 (m_X1_turn_L24 (m_X1_turn_L99 (m_X1_turn_L2 n2)) n24)) σ x1 x2 x4 t0 t1 = some r_ → W p l e (wrm 4 104 0 0) s m args below meth c H locs 0 0 (MQ below (wQi g L r_ σ) args s 0 0 (fun q => gz g ≤ q)) (F0 m 84 ls [.int t1, .int t0]) := by
            intro σ x1 x2 x4 t0 t1 H locs ls hW hl hs
            unfold m_X1_turn_L84 at hs
            refine lv_iadd hx hb dX1_turn_84 ?_
            refine lv_istore_n (lv' := [(3, .int (t0 + t1)), (0, .ref (L 1 0)), (1, .int x1), (2, .int x2), (4, .int x4)]) hx hb dX1_turn_85 rfl hl (by decide) rfl (fun ls hl => ?_)
            refine lv_iinc (v := (x4 + (1 : Int32))) (lv' := [(4, .int (x4 + (1 : Int32))), (3, .int (t0 + t1)), (0, .ref (L 1 0)), (1, .int x1), (2, .int x2)]) hx hb dX1_turn_86 hl (k := 4) rfl rfl (by decide) rfl (fun ls hl => ?_)
            refine lv_goto (tgt := 24) hx hb dX1_turn_89 (by decide) ?_
            exact ih24 σ x1 x2 (t0 + t1) (x4 + (1 : Int32)) _ _ ls hW (lv_sub hl [2, 3, 4, 1, 0] rfl) hs
          have hL83 : ∀ (σ : st_T) (x1 : Int32) (x2 : Int32) (x4 : Int32) (t0 : Int32) (H : Heap) (locs : List Loc) (ls : Array Slot), wv g L σ s H locs → lv_has ls 5 [(0, .ref (L 1 0)), (1, .int x1), (2, .int x2), (4, .int x4)] → (m_X1_turn_L83 (m_X1_turn_L84 (m_X1_turn_L24 (m_X1_turn_L99 (m_X1_turn_L2 n2)) n24))) σ x1 x2 x4 t0 = some r_ → W p l e (wrm 4 104 0 0) s m args below meth c H locs 0 0 (MQ below (wQi g L r_ σ) args s 0 0 (fun q => gz g ≤ q)) (F0 m 83 ls [.int t0]) := by
            intro σ x1 x2 x4 t0 H locs ls hW hl hs
            unfold m_X1_turn_L83 at hs
            refine lv_iconst (v := 0) hx hb dX1_turn_83 (by decide) ?_
            exact hL84 σ x1 x2 x4 t0 (0 : Int32) _ _ ls hW (lv_sub hl [0, 1, 2, 3] rfl) hs
          have hL79 : ∀ (σ : st_T) (x1 : Int32) (x2 : Int32) (x4 : Int32) (t0 : Int32) (H : Heap) (locs : List Loc) (ls : Array Slot), wv g L σ s H locs → lv_has ls 5 [(0, .ref (L 1 0)), (1, .int x1), (2, .int x2), (4, .int x4)] → (m_X1_turn_L79 (m_X1_turn_L84 (m_X1_turn_L24 (m_X1_turn_L99 (m_X1_turn_L2 n2)) n24))) σ x1 x2 x4 t0 = some r_ → W p l e (wrm 4 104 0 0) s m args below meth c H locs 0 0 (MQ below (wQi g L r_ σ) args s 0 0 (fun q => gz g ≤ q)) (F0 m 79 ls [.int t0]) := by
            intro σ x1 x2 x4 t0 H locs ls hW hl hs
            unfold m_X1_turn_L79 at hs
            refine lv_iconst (v := 1) hx hb dX1_turn_79 (by decide) ?_
            refine lv_goto (tgt := 84) hx hb dX1_turn_80 (by decide) ?_
            exact hL84 σ x1 x2 x4 t0 (1 : Int32) _ _ ls hW (lv_sub hl [0, 1, 2, 3] rfl) hs
          intro σ x1 x2 x3 x4 H locs ls hW hl hs
          rw [m_X1_turn_L24] at hs
          refine lv_iload hx hb dX1_turn_24 (lv_at hl 4 rfl) ?_
          refine lv_bipush (v := 10) hx hb dX1_turn_26 (by decide) ?_
          refine lv_icmp_ge (tgt := 92) hx hb dX1_turn_28 (by decide) (fun hc1 => ?_) (fun hc1 => ?_)
          · have hs := ww_T hs hc1
            refine lv_iload_n hx hb dX1_turn_92 rfl (lv_at hl 3 rfl) ?_
            refine lv_iload_n hx hb dX1_turn_93 rfl (lv_at hl 1 rfl) ?_
            refine lv_icmp_ne (tgt := 99) hx hb dX1_turn_94 (by decide) (fun hc2 => ?_) (fun hc2 => ?_)
            · have hs := ww_F hs hc2
              exact hL99 σ x1 x2 _ _ ls hW (lv_sub hl [0, 1, 2] rfl) hs
            · have hs := ww_T hs hc2
              refine lv_iload_n hx hb dX1_turn_97 rfl (lv_at hl 2 rfl) ?_
              have hs := ww_S hs
              exact we_i hx hb hr hlocks hW hs rfl (Nat.le_of_ble_eq_true rfl) (Nat.le_of_ble_eq_true rfl) dX1_turn_98
          · have hs := ww_F hs hc1
            refine lv_iload_n hx hb dX1_turn_31 rfl (lv_at hl 3 rfl) ?_
            refine lv_aload_n hx hb dX1_turn_32 rfl (lv_at hl 0 rfl) ?_
            refine lv_iload hx hb dX1_turn_33 (lv_at hl 4 rfl) ?_
            obtain ⟨v5, hc3, hs⟩ := ww_bnd hs
            refine ww_ci (va_runV (As := [.int x4]) (rest := [.int x3]) ⟨hx, hb, hml, hown, hts⟩ (c_X1_mayTurn g hgm l L σ x4 _ hc3) (cwV 1 hts (lw_V q722 q724 qs10 q111 q725) rfl rfl rfl hd_X1_mayTurn ⟨(Nat.le_of_ble_eq_true rfl), (Nat.le_of_ble_eq_true rfl)⟩) (ww_preV hW (pr_st (hW.rd hgm) (Nat.le_of_ble_eq_true rfl)) (obv_0 rfl) rfl) rfl rfl hl.1 rfl (lv_room (Nat.le_of_ble_eq_true rfl)) dX1_turn_35 ⟨Nat.le_of_ble_eq_true rfl, Nat.le_of_ble_eq_true rfl⟩) hW (fun H locs hW => ?_)
            refine lv_if_eq (tgt := 83) hx hb dX1_turn_38 (by decide) (fun hc6 => ?_) (fun hc6 => ?_)
            · have hs := ww_T hs hc6
              exact hL83 σ x1 x2 x4 x3 _ _ ls hW (lv_sub hl [0, 1, 2, 4] rfl) hs
            · have hs := ww_F hs hc6
              refine lv_aload_n hx hb dX1_turn_41 rfl (lv_at hl 0 rfl) ?_
              refine gf_X1_94 hx hb hts hown hW (pr_st (hW.rd hgm) (Nat.le_of_ble_eq_true rfl)) (hW.fl hgm (pr_st (hW.rd hgm) (Nat.le_of_ble_eq_true rfl)) 13 (by decide) rfl (by decide)) dX1_turn_42 ?_
              refine lv_iload hx hb dX1_turn_45 (lv_at hl 4 rfl) ?_
              obtain ⟨hc7, hs⟩ := ww_chk hs
              refine ww_iald hx hb hW 23 0 (pr_st (hW.rd hgm) (Nat.le_of_ble_eq_true rfl)) rfl hc7 dX1_turn_47 ?_
              refine lv_aload_n hx hb dX1_turn_48 rfl (lv_at hl 0 rfl) ?_
              refine gf_X1_94 hx hb hts hown hW (pr_st (hW.rd hgm) (Nat.le_of_ble_eq_true rfl)) (hW.fl hgm (pr_st (hW.rd hgm) (Nat.le_of_ble_eq_true rfl)) 13 (by decide) rfl (by decide)) dX1_turn_49 ?_
              refine lv_iload_n hx hb dX1_turn_52 rfl (lv_at hl 2 rfl) ?_
              obtain ⟨hc8, hs⟩ := ww_chk hs
              refine ww_iald hx hb hW 23 0 (pr_st (hW.rd hgm) (Nat.le_of_ble_eq_true rfl)) rfl hc8 dX1_turn_53 ?_
              refine lv_icmp_lt (tgt := 79) hx hb dX1_turn_54 (by decide) (fun hc9 => ?_) (fun hc9 => ?_)
              · have hs := ww_T hs hc9
                exact hL79 σ x1 x2 x4 x3 _ _ ls hW (lv_sub hl [0, 1, 2, 4] rfl) hs
              · have hs := ww_F hs hc9
                refine lv_aload_n hx hb dX1_turn_57 rfl (lv_at hl 0 rfl) ?_
                refine gf_X1_94 hx hb hts hown hW (pr_st (hW.rd hgm) (Nat.le_of_ble_eq_true rfl)) (hW.fl hgm (pr_st (hW.rd hgm) (Nat.le_of_ble_eq_true rfl)) 13 (by decide) rfl (by decide)) dX1_turn_58 ?_
                refine lv_iload hx hb dX1_turn_61 (lv_at hl 4 rfl) ?_
                refine ww_iald hx hb hW 23 0 (pr_st (hW.rd hgm) (Nat.le_of_ble_eq_true rfl)) rfl hc7 dX1_turn_63 ?_
                refine lv_aload_n hx hb dX1_turn_64 rfl (lv_at hl 0 rfl) ?_
                refine gf_X1_94 hx hb hts hown hW (pr_st (hW.rd hgm) (Nat.le_of_ble_eq_true rfl)) (hW.fl hgm (pr_st (hW.rd hgm) (Nat.le_of_ble_eq_true rfl)) 13 (by decide) rfl (by decide)) dX1_turn_65 ?_
                refine lv_iload_n hx hb dX1_turn_68 rfl (lv_at hl 2 rfl) ?_
                refine ww_iald hx hb hW 23 0 (pr_st (hW.rd hgm) (Nat.le_of_ble_eq_true rfl)) rfl hc8 dX1_turn_69 ?_
                refine lv_icmp_ne (tgt := 83) hx hb dX1_turn_70 (by decide) (fun hc10 => ?_) (fun hc10 => ?_)
                · have hs := ww_F hs hc10
                  exact hL83 σ x1 x2 x4 x3 _ _ ls hW (lv_sub hl [0, 1, 2, 4] rfl) hs
                · have hs := ww_T hs hc10
                  refine lv_iload hx hb dX1_turn_73 (lv_at hl 4 rfl) ?_
                  refine lv_iload_n hx hb dX1_turn_75 rfl (lv_at hl 2 rfl) ?_
                  refine lv_icmp_ge (tgt := 83) hx hb dX1_turn_76 (by decide) (fun hc11 => ?_) (fun hc11 => ?_)
                  · have hs := ww_T hs hc11
                    exact hL83 σ x1 x2 x4 x3 _ _ ls hW (lv_sub hl [0, 1, 2, 4] rfl) hs
                  · have hs := ww_F hs hc11
                    exact hL79 σ x1 x2 x4 x3 _ _ ls hW (lv_sub hl [0, 1, 2, 4] rfl) hs
      intro σ x1 x2 H locs ls hW hl hs
      rw [m_X1_turn_L2] at hs
      refine lv_iload_n hx hb dX1_turn_2 rfl (lv_at hl 2 rfl) ?_
      refine lv_bipush (v := 10) hx hb dX1_turn_3 (by decide) ?_
      refine lv_icmp_ge (tgt := 105) hx hb dX1_turn_5 (by decide) (fun hc12 => ?_) (fun hc12 => ?_)
      · have hs := ww_T hs hc12
        refine lv_iconst (v := (-1)) hx hb dX1_turn_105 (by decide) ?_
        have hs := ww_S hs
        exact we_i hx hb hr hlocks hW hs rfl (Nat.le_of_ble_eq_true rfl) (Nat.le_of_ble_eq_true rfl) dX1_turn_106
      · have hs := ww_F hs hc12
        refine lv_aload_n hx hb dX1_turn_8 rfl (lv_at hl 0 rfl) ?_
        refine lv_iload_n hx hb dX1_turn_9 rfl (lv_at hl 2 rfl) ?_
        obtain ⟨v15, hc13, hs⟩ := ww_bnd hs
        refine ww_ci (va_runV (As := [.int x2]) (rest := []) ⟨hx, hb, hml, hown, hts⟩ (c_X1_mayTurn g hgm l L σ x2 _ hc13) (cwV 1 hts (lw_V q722 q724 qs10 q111 q725) rfl rfl rfl hd_X1_mayTurn ⟨(Nat.le_of_ble_eq_true rfl), (Nat.le_of_ble_eq_true rfl)⟩) (ww_preV hW (pr_st (hW.rd hgm) (Nat.le_of_ble_eq_true rfl)) (obv_0 rfl) rfl) rfl rfl hl.1 rfl (lv_room (Nat.le_of_ble_eq_true rfl)) dX1_turn_10 ⟨Nat.le_of_ble_eq_true rfl, Nat.le_of_ble_eq_true rfl⟩) hW (fun H locs hW => ?_)
        refine lv_if_ne (tgt := 19) hx hb dX1_turn_13 (by decide) (fun hc16 => ?_) (fun hc16 => ?_)
        · have hs := ww_F hs hc16
          refine lv_iconst (v := 0) hx hb dX1_turn_19 (by decide) ?_
          refine lv_istore_n (lv' := [(3, .int (0 : Int32)), (0, .ref (L 1 0)), (1, .int x1), (2, .int x2)]) hx hb dX1_turn_20 rfl hl (by decide) rfl (fun ls hl => ?_)
          refine lv_iconst (v := 0) hx hb dX1_turn_21 (by decide) ?_
          refine lv_istore (lv' := [(4, .int (0 : Int32)), (3, .int (0 : Int32)), (0, .ref (L 1 0)), (1, .int x1), (2, .int x2)]) hx hb dX1_turn_22 hl (by decide) rfl (fun ls hl => ?_)
          exact hL24 fu_ σ x1 x2 (0 : Int32) (0 : Int32) _ _ ls hW (lv_sub hl [2, 3, 4, 1, 0] rfl) hs
        · have hs := ww_T hs hc16
          refine lv_goto (tgt := 99) hx hb dX1_turn_16 (by decide) ?_
          exact hL99 σ x1 x2 _ _ ls hW (lv_sub hl [0, 1, 2] rfl) hs
  refine lv_iconst (v := 0) hx hb dX1_turn_0 (by decide) ?_
  refine lv_istore_n (lv' := [(2, .int (0 : Int32)), (0, .ref (L 1 0)), (1, .int a1)]) hx hb dX1_turn_1 rfl hl (by decide) rfl (fun ls hl => ?_)
  exact hL2 fu_ σ a1 (0 : Int32) _ _ ls hW (lv_sub hl [1, 2, 0] rfl) hs
set_option maxHeartbeats 4000000 in
theorem c_X1_count (g : wg_T) (hgm : gm g = true) (l : Launch) (L : ly_T) (σ : st_T) (a1 : Int32) (r_ : Int32) (hs : m_X1_count σ a1 = some r_) : CI g l yX1_count (ws_ yX1_count cX1_count 4 (some .int)) 5 150 0 0 [.ref (L 1 0), .int a1] L σ r_ σ := by
  refine wbody.met (by decide) (Nat.le_of_ble_eq_true rfl) ?_
  intro p e s m args below meth c ls hx hb hr hml hlocks hts hown hnm hW hl
  have hown : s.vm.findClass RX1 = some m.cls := hown
  have hl : lv_has ls 4 [(0, .ref (L 1 0)), (1, .int a1)] := hl
  unfold m_X1_count at hs
  have hL99 : ∀ (n99 : Nat), ∀ (σ : st_T) (x2 : Int32) (x3 : Int32) (H : Heap) (locs : List Loc) (ls : Array Slot), wv g L σ s H locs → lv_has ls 4 [(0, .ref (L 1 0)), (2, .int x2), (3, .int x3)] → (m_X1_count_L99 n99) σ x2 x3 = some r_ → W p l e (wrm 5 150 0 0) s m args below meth c H locs 0 0 (MQ below (wQi g L r_ σ) args s 0 0 (fun q => gz g ≤ q)) (F0 m 99 ls []) := by
    intro n99
    induction n99 with
    | zero => intro σ x2 x3 H locs ls hW hl hs; rw [m_X1_count_L99] at hs; cases hs
    | succ n99 ih99 =>
      intro σ x2 x3 H locs ls hW hl hs
      rw [m_X1_count_L99] at hs
      refine lv_iload_n hx hb dX1_count_99 rfl (lv_at hl 2 rfl) ?_
      refine lv_bipush (v := 64) hx hb dX1_count_100 (by decide) ?_
      refine lv_icmp_ge (tgt := 123) hx hb dX1_count_102 (by decide) (fun hc1 => ?_) (fun hc1 => ?_)
      · have hs := ww_T hs hc1
        refine lv_iload_n hx hb dX1_count_123 rfl (lv_at hl 1 rfl) ?_
        have hs := ww_S hs
        exact we_i hx hb hr hlocks hW hs rfl (Nat.le_of_ble_eq_true rfl) (Nat.le_of_ble_eq_true rfl) dX1_count_124
      · have hs := ww_F hs hc1
        refine lv_iload_n hx hb dX1_count_105 rfl (lv_at hl 1 rfl) ?_
        refine lv_aload_n hx hb dX1_count_106 rfl (lv_at hl 0 rfl) ?_
        refine gf_X1_44 hx hb hts hown hW (pr_st (hW.rd hgm) (Nat.le_of_ble_eq_true rfl)) (hW.fl hgm (pr_st (hW.rd hgm) (Nat.le_of_ble_eq_true rfl)) 1 (by decide) rfl (by decide)) dX1_count_107 ?_
        refine gf_X1_186 hx hb hts hown hW (pr_st (hW.rd hgm) (Nat.le_of_ble_eq_true rfl)) (hW.fl hgm (pr_st (hW.rd hgm) (Nat.le_of_ble_eq_true rfl)) 3 (by decide) rfl (by decide)) dX1_count_110 ?_
        refine lv_iload_n hx hb dX1_count_113 rfl (lv_at hl 2 rfl) ?_
        obtain ⟨hc2, hs⟩ := ww_chk hs
        refine ww_iald hx hb hW 54 0 (pr_st (hW.rd hgm) (Nat.le_of_ble_eq_true rfl)) rfl hc2 dX1_count_114 ?_
        refine lv_iadd hx hb dX1_count_115 ?_
        refine lv_istore_n (lv' := [(2, .int (x2 + (gA_ σ 54 0 x3.toNatClampNeg))), (0, .ref (L 1 0)), (3, .int x3)]) hx hb dX1_count_116 rfl hl (by decide) rfl (fun ls hl => ?_)
        refine lv_iinc (v := (x3 + (1 : Int32))) (lv' := [(3, .int (x3 + (1 : Int32))), (2, .int (x2 + (gA_ σ 54 0 x3.toNatClampNeg))), (0, .ref (L 1 0))]) hx hb dX1_count_117 hl (k := 2) rfl rfl (by decide) rfl (fun ls hl => ?_)
        refine lv_goto (tgt := 99) hx hb dX1_count_120 (by decide) ?_
        exact ih99 σ (x2 + (gA_ σ 54 0 x3.toNatClampNeg)) (x3 + (1 : Int32)) _ _ ls hW (lv_sub hl [2, 1, 0] rfl) hs
  refine lv_iload_n hx hb dX1_count_0 rfl (lv_at hl 1 rfl) ?_
  by_cases hc3 : a1 = (0 : Int32)
  · have hs := ww_T hs hc3
    refine lv_tableIn (off := 63) (tgt := 64) hx hb dX1_count_1 (by rw [hc3]; decide) (by rw [hc3]; decide) (by rw [hc3]; rfl) (by decide) ?_
    refine lv_aload_n hx hb dX1_count_64 rfl (lv_at hl 0 rfl) ?_
    refine gf_X1_325 hx hb hts hown hW (pr_st (hW.rd hgm) (Nat.le_of_ble_eq_true rfl)) dX1_count_65 ?_
    have hs := ww_S hs
    exact we_i hx hb hr hlocks hW hs rfl (Nat.le_of_ble_eq_true rfl) (Nat.le_of_ble_eq_true rfl) dX1_count_68
  · have hs := ww_F hs hc3
    by_cases hc4 : a1 = (1 : Int32)
    · have hs := ww_T hs hc4
      refine lv_tableIn (off := 68) (tgt := 69) hx hb dX1_count_1 (by rw [hc4]; decide) (by rw [hc4]; decide) (by rw [hc4]; rfl) (by decide) ?_
      refine lv_aload_n hx hb dX1_count_69 rfl (lv_at hl 0 rfl) ?_
      refine gf_X1_71 hx hb hts hown hW (pr_st (hW.rd hgm) (Nat.le_of_ble_eq_true rfl)) (hW.fl hgm (pr_st (hW.rd hgm) (Nat.le_of_ble_eq_true rfl)) 6 (by decide) rfl (by decide)) dX1_count_70 ?_
      refine ww_ci (va_runV (As := []) (rest := []) ⟨hx, hb, hml, hown, hts⟩ (c_AL_size g hgm l L σ 70 0 71 rfl rfl (pr_st (hW.rd hgm) (Nat.le_of_ble_eq_true rfl))) (cwV 0 hts (lw_V q514 q515 q516 q117 q517) rfl rfl rfl hd_J2_size ⟨(Nat.le_of_ble_eq_true rfl), (Nat.le_of_ble_eq_true rfl)⟩) (ww_preV hW (pr_st (hW.rd hgm) (Nat.le_of_ble_eq_true rfl)) (obv_0 rfl) rfl) rfl rfl hl.1 rfl (lv_room (Nat.le_of_ble_eq_true rfl)) dX1_count_73 ⟨Nat.zero_le _, Nat.zero_le _⟩) hW (fun H locs hW => ?_)
      have hs := ww_S hs
      exact we_i hx hb hr hlocks hW hs rfl (Nat.le_of_ble_eq_true rfl) (Nat.le_of_ble_eq_true rfl) dX1_count_76
    · have hs := ww_F hs hc4
      by_cases hc5 : a1 = (2 : Int32)
      · have hs := ww_T hs hc5
        refine lv_tableIn (off := 76) (tgt := 77) hx hb dX1_count_1 (by rw [hc5]; decide) (by rw [hc5]; decide) (by rw [hc5]; rfl) (by decide) ?_
        refine lv_aload_n hx hb dX1_count_77 rfl (lv_at hl 0 rfl) ?_
        refine gf_X1_296 hx hb hts hown hW (pr_st (hW.rd hgm) (Nat.le_of_ble_eq_true rfl)) dX1_count_78 ?_
        have hs := ww_S hs
        exact we_i hx hb hr hlocks hW hs rfl (Nat.le_of_ble_eq_true rfl) (Nat.le_of_ble_eq_true rfl) dX1_count_81
      · have hs := ww_F hs hc5
        by_cases hc6 : a1 = (3 : Int32)
        · have hs := ww_T hs hc6
          refine lv_tableIn (off := 81) (tgt := 82) hx hb dX1_count_1 (by rw [hc6]; decide) (by rw [hc6]; decide) (by rw [hc6]; rfl) (by decide) ?_
          refine lv_aload_n hx hb dX1_count_82 rfl (lv_at hl 0 rfl) ?_
          refine gf_X1_75 hx hb hts hown hW (pr_st (hW.rd hgm) (Nat.le_of_ble_eq_true rfl)) (hW.fl hgm (pr_st (hW.rd hgm) (Nat.le_of_ble_eq_true rfl)) 7 (by decide) rfl (by decide)) dX1_count_83 ?_
          refine ww_ci (va_runV (As := []) (rest := []) ⟨hx, hb, hml, hown, hts⟩ (c_AL_size g hgm l L σ 72 0 73 rfl rfl (pr_st (hW.rd hgm) (Nat.le_of_ble_eq_true rfl))) (cwV 0 hts (lw_V q514 q515 q516 q117 q517) rfl rfl rfl hd_J2_size ⟨(Nat.le_of_ble_eq_true rfl), (Nat.le_of_ble_eq_true rfl)⟩) (ww_preV hW (pr_st (hW.rd hgm) (Nat.le_of_ble_eq_true rfl)) (obv_0 rfl) rfl) rfl rfl hl.1 rfl (lv_room (Nat.le_of_ble_eq_true rfl)) dX1_count_86 ⟨Nat.zero_le _, Nat.zero_le _⟩) hW (fun H locs hW => ?_)
          have hs := ww_S hs
          exact we_i hx hb hr hlocks hW hs rfl (Nat.le_of_ble_eq_true rfl) (Nat.le_of_ble_eq_true rfl) dX1_count_89
        · have hs := ww_F hs hc6
          by_cases hc7 : a1 = (4 : Int32)
          · have hs := ww_T hs hc7
            refine lv_tableIn (off := 89) (tgt := 90) hx hb dX1_count_1 (by rw [hc7]; decide) (by rw [hc7]; decide) (by rw [hc7]; rfl) (by decide) ?_
            refine lv_aload_n hx hb dX1_count_90 rfl (lv_at hl 0 rfl) ?_
            refine gf_X1_414 hx hb hts hown hW (pr_st (hW.rd hgm) (Nat.le_of_ble_eq_true rfl)) dX1_count_91 ?_
            have hs := ww_S hs
            exact we_i hx hb hr hlocks hW hs rfl (Nat.le_of_ble_eq_true rfl) (Nat.le_of_ble_eq_true rfl) dX1_count_94
          · have hs := ww_F hs hc7
            by_cases hc8 : a1 = (5 : Int32)
            · have hs := ww_T hs hc8
              refine lv_tableIn (off := 94) (tgt := 95) hx hb dX1_count_1 (by rw [hc8]; decide) (by rw [hc8]; decide) (by rw [hc8]; rfl) (by decide) ?_
              refine lv_iconst (v := 0) hx hb dX1_count_95 (by decide) ?_
              refine lv_istore_n (lv' := [(2, .int (0 : Int32)), (0, .ref (L 1 0)), (1, .int a1)]) hx hb dX1_count_96 rfl hl (by decide) rfl (fun ls hl => ?_)
              refine lv_iconst (v := 0) hx hb dX1_count_97 (by decide) ?_
              refine lv_istore_n (lv' := [(3, .int (0 : Int32)), (2, .int (0 : Int32)), (0, .ref (L 1 0)), (1, .int a1)]) hx hb dX1_count_98 rfl hl (by decide) rfl (fun ls hl => ?_)
              exact hL99 fu_ σ (0 : Int32) (0 : Int32) _ _ ls hW (lv_sub hl [2, 1, 0] rfl) hs
            · have hs := ww_F hs hc8
              by_cases hc9 : a1 = (6 : Int32)
              · have hs := ww_T hs hc9
                refine lv_tableIn (off := 124) (tgt := 125) hx hb dX1_count_1 (by rw [hc9]; decide) (by rw [hc9]; decide) (by rw [hc9]; rfl) (by decide) ?_
                refine lv_aload_n hx hb dX1_count_125 rfl (lv_at hl 0 rfl) ?_
                refine gf_X1_243 hx hb hts hown hW (pr_st (hW.rd hgm) (Nat.le_of_ble_eq_true rfl)) dX1_count_126 ?_
                have hs := ww_S hs
                exact we_i hx hb hr hlocks hW hs rfl (Nat.le_of_ble_eq_true rfl) (Nat.le_of_ble_eq_true rfl) dX1_count_129
              · have hs := ww_F hs hc9
                by_cases hc10 : a1 = (7 : Int32)
                · have hs := ww_T hs hc10
                  refine lv_tableIn (off := 129) (tgt := 130) hx hb dX1_count_1 (by rw [hc10]; decide) (by rw [hc10]; decide) (by rw [hc10]; rfl) (by decide) ?_
                  refine lv_aload_n hx hb dX1_count_130 rfl (lv_at hl 0 rfl) ?_
                  refine gf_X1_156 hx hb hts hown hW (pr_st (hW.rd hgm) (Nat.le_of_ble_eq_true rfl)) (hW.fl hgm (pr_st (hW.rd hgm) (Nat.le_of_ble_eq_true rfl)) 31 (by decide) rfl (by decide)) dX1_count_131 ?_
                  obtain ⟨hc11, hs⟩ := ww_chk hs
                  refine gf_X1_253 hx hb hts hown hW (pr_dy hc11 rfl rfl) dX1_count_134 ?_
                  have hs := ww_S hs
                  exact we_i hx hb hr hlocks hW hs rfl (Nat.le_of_ble_eq_true rfl) (Nat.le_of_ble_eq_true rfl) dX1_count_137
                · have hs := ww_F hs hc10
                  by_cases hc12 : a1 = (8 : Int32)
                  · have hs := ww_T hs hc12
                    refine lv_tableIn (off := 137) (tgt := 138) hx hb dX1_count_1 (by rw [hc12]; decide) (by rw [hc12]; decide) (by rw [hc12]; rfl) (by decide) ?_
                    refine lv_aload_n hx hb dX1_count_138 rfl (lv_at hl 0 rfl) ?_
                    refine gf_X1_78 hx hb hts hown hW (pr_st (hW.rd hgm) (Nat.le_of_ble_eq_true rfl)) (hW.fl hgm (pr_st (hW.rd hgm) (Nat.le_of_ble_eq_true rfl)) 8 (by decide) rfl (by decide)) dX1_count_139 ?_
                    refine ww_ci (va_runV (As := []) (rest := []) ⟨hx, hb, hml, hown, hts⟩ (c_AL_size g hgm l L σ 74 0 75 rfl rfl (pr_st (hW.rd hgm) (Nat.le_of_ble_eq_true rfl))) (cwV 0 hts (lw_V q514 q515 q516 q117 q517) rfl rfl rfl hd_J2_size ⟨(Nat.le_of_ble_eq_true rfl), (Nat.le_of_ble_eq_true rfl)⟩) (ww_preV hW (pr_st (hW.rd hgm) (Nat.le_of_ble_eq_true rfl)) (obv_0 rfl) rfl) rfl rfl hl.1 rfl (lv_room (Nat.le_of_ble_eq_true rfl)) dX1_count_142 ⟨Nat.zero_le _, Nat.zero_le _⟩) hW (fun H locs hW => ?_)
                    have hs := ww_S hs
                    exact we_i hx hb hr hlocks hW hs rfl (Nat.le_of_ble_eq_true rfl) (Nat.le_of_ble_eq_true rfl) dX1_count_145
                  · have hs := ww_F hs hc12
                    by_cases hc13 : a1 = (9 : Int32)
                    · have hs := ww_T hs hc13
                      refine lv_tableIn (off := 145) (tgt := 146) hx hb dX1_count_1 (by rw [hc13]; decide) (by rw [hc13]; decide) (by rw [hc13]; rfl) (by decide) ?_
                      refine lv_aload_n hx hb dX1_count_146 rfl (lv_at hl 0 rfl) ?_
                      refine gf_X1_81 hx hb hts hown hW (pr_st (hW.rd hgm) (Nat.le_of_ble_eq_true rfl)) (hW.fl hgm (pr_st (hW.rd hgm) (Nat.le_of_ble_eq_true rfl)) 9 (by decide) rfl (by decide)) dX1_count_147 ?_
                      refine ww_ci (va_runV (As := []) (rest := []) ⟨hx, hb, hml, hown, hts⟩ (c_AL_size g hgm l L σ 76 0 77 rfl rfl (pr_st (hW.rd hgm) (Nat.le_of_ble_eq_true rfl))) (cwV 0 hts (lw_V q514 q515 q516 q117 q517) rfl rfl rfl hd_J2_size ⟨(Nat.le_of_ble_eq_true rfl), (Nat.le_of_ble_eq_true rfl)⟩) (ww_preV hW (pr_st (hW.rd hgm) (Nat.le_of_ble_eq_true rfl)) (obv_0 rfl) rfl) rfl rfl hl.1 rfl (lv_room (Nat.le_of_ble_eq_true rfl)) dX1_count_150 ⟨Nat.zero_le _, Nat.zero_le _⟩) hW (fun H locs hW => ?_)
                      have hs := ww_S hs
                      exact we_i hx hb hr hlocks hW hs rfl (Nat.le_of_ble_eq_true rfl) (Nat.le_of_ble_eq_true rfl) dX1_count_153
                    · have hs := ww_F hs hc13
                      by_cases hc14 : a1 = (10 : Int32)
                      · have hs := ww_T hs hc14
                        refine lv_tableIn (off := 153) (tgt := 154) hx hb dX1_count_1 (by rw [hc14]; decide) (by rw [hc14]; decide) (by rw [hc14]; rfl) (by decide) ?_
                        refine lv_aload_n hx hb dX1_count_154 rfl (lv_at hl 0 rfl) ?_
                        obtain ⟨v17, hc15, hs⟩ := ww_bnd hs
                        refine ww_ci (va_runV (As := []) (rest := []) ⟨hx, hb, hml, hown, hts⟩ (c_X1_joined g hgm l L σ  _ hc15) (cwV 0 hts (lw_V q730 q732 qs11 q111 q733) rfl rfl rfl hd_X1_joined ⟨(Nat.le_of_ble_eq_true rfl), (Nat.le_of_ble_eq_true rfl)⟩) (ww_preV hW (pr_st (hW.rd hgm) (Nat.le_of_ble_eq_true rfl)) (obv_0 rfl) rfl) rfl rfl hl.1 rfl (lv_room (Nat.le_of_ble_eq_true rfl)) dX1_count_155 ⟨Nat.le_of_ble_eq_true rfl, Nat.le_of_ble_eq_true rfl⟩) hW (fun H locs hW => ?_)
                        have hs := ww_S hs
                        exact we_i hx hb hr hlocks hW hs rfl (Nat.le_of_ble_eq_true rfl) (Nat.le_of_ble_eq_true rfl) dX1_count_158
                      · have hs := ww_F hs hc14
                        by_cases hc18 : a1 = (11 : Int32)
                        · have hs := ww_T hs hc18
                          refine lv_tableIn (off := 158) (tgt := 159) hx hb dX1_count_1 (by rw [hc18]; decide) (by rw [hc18]; decide) (by rw [hc18]; rfl) (by decide) ?_
                          refine lv_aload_n hx hb dX1_count_159 rfl (lv_at hl 0 rfl) ?_
                          refine gf_X1_397 hx hb hts hown hW (pr_st (hW.rd hgm) (Nat.le_of_ble_eq_true rfl)) dX1_count_160 ?_
                          have hs := ww_S hs
                          exact we_i hx hb hr hlocks hW hs rfl (Nat.le_of_ble_eq_true rfl) (Nat.le_of_ble_eq_true rfl) dX1_count_163
                        · have hs := ww_F hs hc18
                          refine lv_tableOut (tgt := 164) hx hb dX1_count_1 (by have z0 := lv_neT (k := (0 : Int32)) (a := 0) hc3 rfl; have z1 := lv_neT (k := (1 : Int32)) (a := 1) hc4 rfl; have z2 := lv_neT (k := (2 : Int32)) (a := 2) hc5 rfl; have z3 := lv_neT (k := (3 : Int32)) (a := 3) hc6 rfl; have z4 := lv_neT (k := (4 : Int32)) (a := 4) hc7 rfl; have z5 := lv_neT (k := (5 : Int32)) (a := 5) hc8 rfl; have z6 := lv_neT (k := (6 : Int32)) (a := 6) hc9 rfl; have z7 := lv_neT (k := (7 : Int32)) (a := 7) hc10 rfl; have z8 := lv_neT (k := (8 : Int32)) (a := 8) hc12 rfl; have z9 := lv_neT (k := (9 : Int32)) (a := 9) hc13 rfl; have z10 := lv_neT (k := (10 : Int32)) (a := 10) hc14 rfl; have z11 := lv_neT (k := (11 : Int32)) (a := 11) hc18 rfl; omega) (by decide) ?_
                          refine lv_iconst (v := (-1)) hx hb dX1_count_164 (by decide) ?_
                          have hs := ww_S hs
                          exact we_i hx hb hr hlocks hW hs rfl (Nat.le_of_ble_eq_true rfl) (Nat.le_of_ble_eq_true rfl) dX1_count_165
set_option maxHeartbeats 4000000 in
theorem c_X1_cell (g : wg_T) (hgm : gm g = true) (l : Launch) (L : ly_T) (σ : st_T) (a1 : Int32) (hst : l.stackTraces = false) (o_ : Nat ⊕ Unit) (hs : m_X1_cell a1 = some o_) : XV g l yX1_cell (ws_ yX1_cell cX1_cell 1 none) 8 140 (xc o_) (xs o_) [.int a1] L σ o_ σ := by
  refine xbody.met (by decide) (Nat.le_of_ble_eq_true rfl) ?_
  intro p e s m args below meth c ls hx hb hr hml hlocks hts hown hnm hout hW hl
  have hown : s.vm.findClass RX1 = some m.cls := hown
  have hl : lv_has ls 1 [(0, .int a1)] := hl
  unfold m_X1_cell at hs
  refine lv_iload_n hx hb dX1_cell_0 rfl (lv_at hl 0 rfl) ?_
  refine lv_iconst (v := 0) hx hb dX1_cell_1 (by decide) ?_
  refine lv_bipush (v := 63) hx hb dX1_cell_2 (by decide) ?_
  obtain ⟨v3, hc1, hs⟩ := ww_bnd hs
  refine ww_ci (va_runS (As := [.int a1, .int (0 : Int32), .int (63 : Int32)]) (rest := []) ⟨hx, hb, hml, hown, hts⟩ (c_X1_in g hgm l L σ a1 (0 : Int32) (63 : Int32) _ hc1) (va_cwS 3 hts (lw_S q824 q825 q111 q826) rfl rfl rfl hd_X1_in.2 ⟨(Nat.le_of_ble_eq_true rfl), (Nat.le_of_ble_eq_true rfl)⟩) (ww_preS hW) rfl rfl hl.1 rfl (lv_room (Nat.le_of_ble_eq_true rfl)) dX1_cell_4 ⟨Nat.le_of_ble_eq_true rfl, Nat.le_of_ble_eq_true rfl⟩) hW (fun H locs hW => ?_)
  refine lv_if_ne (tgt := 18) hx hb dX1_cell_7 (by decide) (fun hc4 => ?_) (fun hc4 => ?_)
  · have hs := ww_F hs hc4
    have hs := ww_S hs
    exact wx_v hx hb hr hlocks hW hs rfl (Nat.zero_le _) (Nat.zero_le _) dX1_cell_18
  · have hs := ww_T hs hc4
    have hs := ww_S hs
    exact th_X1_0 hx hb hlocks hown hts hml hl.1 hout hst hW hs rfl dX1_cell_10 dX1_cell_13 dX1_cell_14 dX1_cell_17 (Nat.le_of_ble_eq_true rfl) (Nat.le_of_ble_eq_true rfl) rfl rfl
set_option maxHeartbeats 4000000 in
theorem c_X1_field (g : wg_T) (hgm : gm g = true) (l : Launch) (L : ly_T) (σ : st_T) (a1 : Int32) (a2 : Int32) (a3 : Int32) (a4 : Int32) (hst : l.stackTraces = false) (o_ : Nat ⊕ Int32) (σ_ : st_T) (hs : m_X1_field σ a1 a2 a3 a4 = some (o_, σ_)) : XI g l yX1_field (ws_ yX1_field cX1_field 6 (some .int)) 10 180 (xc o_) (xs o_) [.ref (L 1 0), .int a1, .int a2, .int a3, .int a4] L σ o_ σ_ := by
  refine xbody.met (by decide) (Nat.le_of_ble_eq_true rfl) ?_
  intro p e s m args below meth c ls hx hb hr hml hlocks hts hown hnm hout hW hl
  have hown : s.vm.findClass RX1 = some m.cls := hown
  have hl : lv_has ls 6 [(0, .ref (L 1 0)), (1, .int a1), (2, .int a2), (3, .int a3), (4, .int a4)] := hl
  unfold m_X1_field at hs
  have hL34 : ∀ (σ : st_T) (x1 : Int32) (x2 : Int32) (x3 : Int32) (x4 : Int32) (t0 : Int32) (H : Heap) (locs : List Loc) (ls : Array Slot), wv g L σ s H locs → lv_has ls 6 [(0, .ref (L 1 0)), (1, .int x1), (2, .int x2), (3, .int x3), (4, .int x4)] → m_X1_field_L34 σ x1 x2 x3 x4 t0 = some (o_, σ_) → W p l e (wrm 10 180 (xc o_) (xs o_)) s m args below meth c H locs 0 0 (vx_MQ below (wXi g L o_ σ_) (wX g o_ σ_ L) args s (xc o_) (xs o_) (fun q => gz g ≤ q)) (F0 m 34 ls [.int t0]) := by
    intro σ x1 x2 x3 x4 t0 H locs ls hW hl hs
    unfold m_X1_field_L34 at hs
    obtain ⟨o3, hc1, hs⟩ := ww_bnd hs
    rcases o3 with k4 | v5
    · have hs := ww_sL hs
      have hs := ww_S hs
      have e1 : o_ = .inl k4 := congrArg Prod.fst hs
      have e2 : σ_ = σ := congrArg Prod.snd hs
      subst e1
      exact wx_prop (vx_runS (As := [.int t0]) (rest := []) ⟨hx, hb, hml, hown, hts⟩ (c_X1_wrong g hgm l L σ t0 hst _ hc1) (va_cwS 1 hts (lw_S q848 q849 q111 q850) rfl rfl rfl hd_X1_wrong.2 ⟨(Nat.le_of_ble_eq_true rfl), (Nat.le_of_ble_eq_true rfl)⟩) (ww_preS hW) rfl rfl hl.1 rfl (lv_room (Nat.le_of_ble_eq_true rfl)) dX1_field_34 ⟨Nat.le_of_ble_eq_true rfl, Nat.le_of_ble_eq_true rfl⟩) no_v hW hlocks hout rfl e2 (Nat.le_of_ble_eq_true rfl) (Nat.le_of_ble_eq_true rfl)
    · have hs := ww_sR hs
      refine ww_xv0 (vx_runS (As := [.int t0]) (rest := []) ⟨hx, hb, hml, hown, hts⟩ (c_X1_wrong g hgm l L σ t0 hst _ hc1) (va_cwS 1 hts (lw_S q848 q849 q111 q850) rfl rfl rfl hd_X1_wrong.2 ⟨(Nat.le_of_ble_eq_true rfl), (Nat.le_of_ble_eq_true rfl)⟩) (ww_preS hW) rfl rfl hl.1 rfl (lv_room (Nat.le_of_ble_eq_true rfl)) dX1_field_34 ⟨Nat.zero_le _, Nat.zero_le _⟩) hW (fun H locs hW => ?_)
      refine lv_aload_n hx hb dX1_field_37 rfl (lv_at hl 0 rfl) ?_
      refine lv_iload_n hx hb dX1_field_38 rfl (lv_at hl 1 rfl) ?_
      refine lv_iconst (v := 2) hx hb dX1_field_39 (by decide) ?_
      obtain ⟨v8, σ9, hc6, hs⟩ := ww_bn2 hs
      refine ww_ci (va_runV (As := [.int x1, .int (2 : Int32)]) (rest := []) ⟨hx, hb, hml, hown, hts⟩ (c_X1_was g hgm l L σ x1 (2 : Int32) _ _ hc6) (cwV 2 hts (lw_V q885 q887 qs14 q111 q888) rfl rfl rfl hd_X1_was ⟨(Nat.le_of_ble_eq_true rfl), (Nat.le_of_ble_eq_true rfl)⟩) (ww_preV hW (pr_st (hW.rd hgm) (Nat.le_of_ble_eq_true rfl)) (obv_0 rfl) rfl) rfl rfl hl.1 rfl (lv_room (Nat.le_of_ble_eq_true rfl)) dX1_field_40 ⟨Nat.le_of_ble_eq_true rfl, Nat.le_of_ble_eq_true rfl⟩) hW (fun H locs hW => ?_)
      refine lv_istore (lv' := [(5, .int v8), (0, .ref (L 1 0)), (1, .int x1), (2, .int x2), (3, .int x3), (4, .int x4)]) hx hb dX1_field_43 hl (by decide) rfl (fun ls hl => ?_)
      refine lv_aload_n hx hb dX1_field_45 rfl (lv_at hl 1 rfl) ?_
      refine gf_X1_44 hx hb hts hown hW (pr_st (hW.rd hgm) (Nat.le_of_ble_eq_true rfl)) (hW.fl hgm (pr_st (hW.rd hgm) (Nat.le_of_ble_eq_true rfl)) 1 (by decide) rfl (by decide)) dX1_field_46 ?_
      refine gf_X1_222 hx hb hts hown hW (pr_st (hW.rd hgm) (Nat.le_of_ble_eq_true rfl)) (hW.fl hgm (pr_st (hW.rd hgm) (Nat.le_of_ble_eq_true rfl)) 1 (by decide) rfl (by decide)) dX1_field_49 ?_
      refine lv_iload_n hx hb dX1_field_52 rfl (lv_at hl 2 rfl) ?_
      refine lv_iload_n hx hb dX1_field_53 rfl (lv_at hl 3 rfl) ?_
      obtain ⟨hc10, hs⟩ := ww_chk hs
      obtain ⟨σ11, e12, hs⟩ := ww_let hs
      refine ww_iast hx hb hW 52 0 (pr_st (hW.rd hgm) (Nat.le_of_ble_eq_true rfl)) rfl hc10 dX1_field_54 (fun H locs hW => ?_)
      have hW : wv g L σ11 s H locs := by rw [e12]; exact hW
      refine lv_aload_n hx hb dX1_field_55 rfl (lv_at hl 1 rfl) ?_
      refine gf_X1_44 hx hb hts hown hW (pr_st (hW.rd hgm) (Nat.le_of_ble_eq_true rfl)) (hW.fl hgm (pr_st (hW.rd hgm) (Nat.le_of_ble_eq_true rfl)) 1 (by decide) rfl (by decide)) dX1_field_56 ?_
      refine gf_X1_224 hx hb hts hown hW (pr_st (hW.rd hgm) (Nat.le_of_ble_eq_true rfl)) (hW.fl hgm (pr_st (hW.rd hgm) (Nat.le_of_ble_eq_true rfl)) 2 (by decide) rfl (by decide)) dX1_field_59 ?_
      refine lv_iload_n hx hb dX1_field_62 rfl (lv_at hl 2 rfl) ?_
      refine lv_iload_n hx hb dX1_field_63 rfl (lv_at hl 4 rfl) ?_
      obtain ⟨σ13, e14, hs⟩ := ww_let hs
      refine ww_iast hx hb hW 53 0 (pr_st (hW.rd hgm) (Nat.le_of_ble_eq_true rfl)) rfl hc10 dX1_field_64 (fun H locs hW => ?_)
      have hW : wv g L σ13 s H locs := by rw [e14]; exact hW
      refine lv_aload_n hx hb dX1_field_65 rfl (lv_at hl 1 rfl) ?_
      refine gf_X1_44 hx hb hts hown hW (pr_st (hW.rd hgm) (Nat.le_of_ble_eq_true rfl)) (hW.fl hgm (pr_st (hW.rd hgm) (Nat.le_of_ble_eq_true rfl)) 1 (by decide) rfl (by decide)) dX1_field_66 ?_
      refine gf_X1_186 hx hb hts hown hW (pr_st (hW.rd hgm) (Nat.le_of_ble_eq_true rfl)) (hW.fl hgm (pr_st (hW.rd hgm) (Nat.le_of_ble_eq_true rfl)) 3 (by decide) rfl (by decide)) dX1_field_69 ?_
      refine lv_iload_n hx hb dX1_field_72 rfl (lv_at hl 2 rfl) ?_
      refine lv_iload hx hb dX1_field_73 (lv_at hl 5 rfl) ?_
      obtain ⟨σ15, e16, hs⟩ := ww_let hs
      refine ww_iast hx hb hW 54 0 (pr_st (hW.rd hgm) (Nat.le_of_ble_eq_true rfl)) rfl hc10 dX1_field_75 (fun H locs hW => ?_)
      have hW : wv g L σ15 s H locs := by rw [e16]; exact hW
      refine lv_iload hx hb dX1_field_76 (lv_at hl 0 rfl) ?_
      have hs := ww_S hs
      exact wx_i hx hb hr hlocks hW (congrArg Prod.fst hs) (congrArg Prod.snd hs) (Nat.zero_le _) (Nat.zero_le _) dX1_field_78
  have hL29 : ∀ (σ : st_T) (x1 : Int32) (x2 : Int32) (x3 : Int32) (x4 : Int32) (H : Heap) (locs : List Loc) (ls : Array Slot), wv g L σ s H locs → lv_has ls 6 [(0, .ref (L 1 0)), (1, .int x1), (2, .int x2), (3, .int x3), (4, .int x4)] → (m_X1_field_L29 m_X1_field_L34) σ x1 x2 x3 x4 = some (o_, σ_) → W p l e (wrm 10 180 (xc o_) (xs o_)) s m args below meth c H locs 0 0 (vx_MQ below (wXi g L o_ σ_) (wX g o_ σ_ L) args s (xc o_) (xs o_) (fun q => gz g ≤ q)) (F0 m 29 ls []) := by
    intro σ x1 x2 x3 x4 H locs ls hW hl hs
    unfold m_X1_field_L29 at hs
    refine lv_iconst (v := 1) hx hb dX1_field_29 (by decide) ?_
    refine lv_goto (tgt := 34) hx hb dX1_field_30 (by decide) ?_
    exact hL34 σ x1 x2 x3 x4 (1 : Int32) _ _ ls hW (lv_sub hl [0, 1, 2, 3, 4] rfl) hs
  refine lv_iload_n hx hb dX1_field_0 rfl (lv_at hl 1 rfl) ?_
  obtain ⟨o19, hc17, hs⟩ := ww_bnd hs
  rcases o19 with k20 | v21
  · have hs := ww_sL hs
    have hs := ww_S hs
    have e1 : o_ = .inl k20 := congrArg Prod.fst hs
    have e2 : σ_ = σ := congrArg Prod.snd hs
    subst e1
    exact wx_prop (vx_runS (As := [.int a1]) (rest := []) ⟨hx, hb, hml, hown, hts⟩ (c_X1_cell g hgm l L σ a1 hst _ hc17) (va_cwS 1 hts (lw_S q821 q822 q111 q823) rfl rfl rfl hd_X1_cell.2 ⟨(Nat.le_of_ble_eq_true rfl), (Nat.le_of_ble_eq_true rfl)⟩) (ww_preS hW) rfl rfl hl.1 rfl (lv_room (Nat.le_of_ble_eq_true rfl)) dX1_field_1 ⟨Nat.le_of_ble_eq_true rfl, Nat.le_of_ble_eq_true rfl⟩) no_v hW hlocks hout rfl e2 (Nat.le_of_ble_eq_true rfl) (Nat.le_of_ble_eq_true rfl)
  · have hs := ww_sR hs
    refine ww_xv0 (vx_runS (As := [.int a1]) (rest := []) ⟨hx, hb, hml, hown, hts⟩ (c_X1_cell g hgm l L σ a1 hst _ hc17) (va_cwS 1 hts (lw_S q821 q822 q111 q823) rfl rfl rfl hd_X1_cell.2 ⟨(Nat.le_of_ble_eq_true rfl), (Nat.le_of_ble_eq_true rfl)⟩) (ww_preS hW) rfl rfl hl.1 rfl (lv_room (Nat.le_of_ble_eq_true rfl)) dX1_field_1 ⟨Nat.zero_le _, Nat.zero_le _⟩) hW (fun H locs hW => ?_)
    refine lv_iload_n hx hb dX1_field_4 rfl (lv_at hl 2 rfl) ?_
    obtain ⟨o24, hc22, hs⟩ := ww_bnd hs
    rcases o24 with k25 | v26
    · have hs := ww_sL hs
      have hs := ww_S hs
      have e1 : o_ = .inl k25 := congrArg Prod.fst hs
      have e2 : σ_ = σ := congrArg Prod.snd hs
      subst e1
      exact wx_prop (vx_runS (As := [.int a2]) (rest := []) ⟨hx, hb, hml, hown, hts⟩ (c_X1_family g hgm l L σ a2 hst _ hc22) (va_cwS 1 hts (lw_S q896 q897 q111 q898) rfl rfl rfl hd_X1_family.2 ⟨(Nat.le_of_ble_eq_true rfl), (Nat.le_of_ble_eq_true rfl)⟩) (ww_preS hW) rfl rfl hl.1 rfl (lv_room (Nat.le_of_ble_eq_true rfl)) dX1_field_5 ⟨Nat.le_of_ble_eq_true rfl, Nat.le_of_ble_eq_true rfl⟩) no_v hW hlocks hout rfl e2 (Nat.le_of_ble_eq_true rfl) (Nat.le_of_ble_eq_true rfl)
    · have hs := ww_sR hs
      refine ww_xv0 (vx_runS (As := [.int a2]) (rest := []) ⟨hx, hb, hml, hown, hts⟩ (c_X1_family g hgm l L σ a2 hst _ hc22) (va_cwS 1 hts (lw_S q896 q897 q111 q898) rfl rfl rfl hd_X1_family.2 ⟨(Nat.le_of_ble_eq_true rfl), (Nat.le_of_ble_eq_true rfl)⟩) (ww_preS hW) rfl rfl hl.1 rfl (lv_room (Nat.le_of_ble_eq_true rfl)) dX1_field_5 ⟨Nat.zero_le _, Nat.zero_le _⟩) hW (fun H locs hW => ?_)
      refine lv_iload_n hx hb dX1_field_8 rfl (lv_at hl 3 rfl) ?_
      refine lv_iconst (v := 0) hx hb dX1_field_9 (by decide) ?_
      refine lv_iconst (v := 3) hx hb dX1_field_10 (by decide) ?_
      obtain ⟨v29, hc27, hs⟩ := ww_bnd hs
      refine ww_ci (va_runS (As := [.int a3, .int (0 : Int32), .int (3 : Int32)]) (rest := []) ⟨hx, hb, hml, hown, hts⟩ (c_X1_in g hgm l L σ a3 (0 : Int32) (3 : Int32) _ hc27) (va_cwS 3 hts (lw_S q824 q825 q111 q826) rfl rfl rfl hd_X1_in.2 ⟨(Nat.le_of_ble_eq_true rfl), (Nat.le_of_ble_eq_true rfl)⟩) (ww_preS hW) rfl rfl hl.1 rfl (lv_room (Nat.le_of_ble_eq_true rfl)) dX1_field_11 ⟨Nat.le_of_ble_eq_true rfl, Nat.le_of_ble_eq_true rfl⟩) hW (fun H locs hW => ?_)
      refine lv_if_eq (tgt := 29) hx hb dX1_field_14 (by decide) (fun hc30 => ?_) (fun hc30 => ?_)
      · have hs := ww_T hs hc30
        exact hL29 σ a1 a2 a3 a4 _ _ ls hW (lv_sub hl [0, 1, 2, 3, 4] rfl) hs
      · have hs := ww_F hs hc30
        refine lv_iload hx hb dX1_field_17 (lv_at hl 4 rfl) ?_
        refine lv_iconst (v := 0) hx hb dX1_field_19 (by decide) ?_
        refine lv_sipush (v := 1000) hx hb dX1_field_20 (by decide) ?_
        obtain ⟨v33, hc31, hs⟩ := ww_bnd hs
        refine ww_ci (va_runS (As := [.int a4, .int (0 : Int32), .int (1000 : Int32)]) (rest := []) ⟨hx, hb, hml, hown, hts⟩ (c_X1_in g hgm l L σ a4 (0 : Int32) (1000 : Int32) _ hc31) (va_cwS 3 hts (lw_S q824 q825 q111 q826) rfl rfl rfl hd_X1_in.2 ⟨(Nat.le_of_ble_eq_true rfl), (Nat.le_of_ble_eq_true rfl)⟩) (ww_preS hW) rfl rfl hl.1 rfl (lv_room (Nat.le_of_ble_eq_true rfl)) dX1_field_23 ⟨Nat.le_of_ble_eq_true rfl, Nat.le_of_ble_eq_true rfl⟩) hW (fun H locs hW => ?_)
        refine lv_if_ne (tgt := 33) hx hb dX1_field_26 (by decide) (fun hc34 => ?_) (fun hc34 => ?_)
        · have hs := ww_F hs hc34
          refine lv_iconst (v := 0) hx hb dX1_field_33 (by decide) ?_
          exact hL34 σ a1 a2 a3 a4 (0 : Int32) _ _ ls hW (lv_sub hl [0, 1, 2, 3, 4] rfl) hs
        · have hs := ww_T hs hc34
          exact hL29 σ a1 a2 a3 a4 _ _ ls hW (lv_sub hl [0, 1, 2, 3, 4] rfl) hs
set_option maxHeartbeats 4000000 in
theorem c_X1_stalks (g : wg_T) (hgm : gm g = true) (l : Launch) (L : ly_T) (σ : st_T) (a1 : Int32) (hst : l.stackTraces = false) (o_ : Nat ⊕ Int32) (hs : m_X1_stalks σ a1 = some o_) : XI g l yX1_stalks (ws_ yX1_stalks cX1_stalks 2 (some .int)) 9 160 (xc o_) (xs o_) [.ref (L 1 0), .int a1] L σ o_ σ := by
  refine xbody.met (by decide) (Nat.le_of_ble_eq_true rfl) ?_
  intro p e s m args below meth c ls hx hb hr hml hlocks hts hown hnm hout hW hl
  have hown : s.vm.findClass RX1 = some m.cls := hown
  have hl : lv_has ls 2 [(0, .ref (L 1 0)), (1, .int a1)] := hl
  unfold m_X1_stalks at hs
  have hL30 : ∀ (σ : st_T) (t0 : Int32) (H : Heap) (locs : List Loc) (ls : Array Slot), wv g L σ s H locs → lv_has ls 2 [] → m_X1_stalks_L30 σ t0 = some o_ → W p l e (wrm 9 160 (xc o_) (xs o_)) s m args below meth c H locs 0 0 (vx_MQ below (wXi g L o_ σ) (wX g o_ σ L) args s (xc o_) (xs o_) (fun q => gz g ≤ q)) (F0 m 30 ls [.int t0]) := by
    intro σ t0 H locs ls hW hl hs
    unfold m_X1_stalks_L30 at hs
    have hs := ww_S hs
    exact wx_i hx hb hr hlocks hW hs rfl (Nat.zero_le _) (Nat.zero_le _) dX1_stalks_30
  refine lv_iload_n hx hb dX1_stalks_0 rfl (lv_at hl 1 rfl) ?_
  obtain ⟨o3, hc1, hs⟩ := ww_bnd hs
  rcases o3 with k4 | v5
  · have hs := ww_sL hs
    have hs := ww_S hs
    subst hs
    exact wx_prop (vx_runS (As := [.int a1]) (rest := []) ⟨hx, hb, hml, hown, hts⟩ (c_X1_cell g hgm l L σ a1 hst _ hc1) (va_cwS 1 hts (lw_S q821 q822 q111 q823) rfl rfl rfl hd_X1_cell.2 ⟨(Nat.le_of_ble_eq_true rfl), (Nat.le_of_ble_eq_true rfl)⟩) (ww_preS hW) rfl rfl hl.1 rfl (lv_room (Nat.le_of_ble_eq_true rfl)) dX1_stalks_1 ⟨Nat.le_of_ble_eq_true rfl, Nat.le_of_ble_eq_true rfl⟩) no_v hW hlocks hout rfl rfl (Nat.le_of_ble_eq_true rfl) (Nat.le_of_ble_eq_true rfl)
  · have hs := ww_sR hs
    refine ww_xv0 (vx_runS (As := [.int a1]) (rest := []) ⟨hx, hb, hml, hown, hts⟩ (c_X1_cell g hgm l L σ a1 hst _ hc1) (va_cwS 1 hts (lw_S q821 q822 q111 q823) rfl rfl rfl hd_X1_cell.2 ⟨(Nat.le_of_ble_eq_true rfl), (Nat.le_of_ble_eq_true rfl)⟩) (ww_preS hW) rfl rfl hl.1 rfl (lv_room (Nat.le_of_ble_eq_true rfl)) dX1_stalks_1 ⟨Nat.zero_le _, Nat.zero_le _⟩) hW (fun H locs hW => ?_)
    refine lv_aload_n hx hb dX1_stalks_4 rfl (lv_at hl 0 rfl) ?_
    refine gf_X1_44 hx hb hts hown hW (pr_st (hW.rd hgm) (Nat.le_of_ble_eq_true rfl)) (hW.fl hgm (pr_st (hW.rd hgm) (Nat.le_of_ble_eq_true rfl)) 1 (by decide) rfl (by decide)) dX1_stalks_5 ?_
    refine gf_X1_183 hx hb hts hown hW (pr_st (hW.rd hgm) (Nat.le_of_ble_eq_true rfl)) (hW.fl hgm (pr_st (hW.rd hgm) (Nat.le_of_ble_eq_true rfl)) 0 (by decide) rfl (by decide)) dX1_stalks_8 ?_
    refine lv_iload_n hx hb dX1_stalks_11 rfl (lv_at hl 1 rfl) ?_
    obtain ⟨hc6, hs⟩ := ww_chk hs
    refine ww_iald hx hb hW 51 0 (pr_st (hW.rd hgm) (Nat.le_of_ble_eq_true rfl)) rfl hc6 dX1_stalks_12 ?_
    refine lv_iconst (v := 2) hx hb dX1_stalks_13 (by decide) ?_
    refine lv_icmp_ne (tgt := 29) hx hb dX1_stalks_14 (by decide) (fun hc7 => ?_) (fun hc7 => ?_)
    · have hs := ww_F hs hc7
      refine lv_iconst (v := (-1)) hx hb dX1_stalks_29 (by decide) ?_
      exact hL30 σ (-1 : Int32) _ _ ls hW (lv_sub hl [] rfl) hs
    · have hs := ww_T hs hc7
      refine lv_aload_n hx hb dX1_stalks_17 rfl (lv_at hl 0 rfl) ?_
      refine gf_X1_44 hx hb hts hown hW (pr_st (hW.rd hgm) (Nat.le_of_ble_eq_true rfl)) (hW.fl hgm (pr_st (hW.rd hgm) (Nat.le_of_ble_eq_true rfl)) 1 (by decide) rfl (by decide)) dX1_stalks_18 ?_
      refine gf_X1_186 hx hb hts hown hW (pr_st (hW.rd hgm) (Nat.le_of_ble_eq_true rfl)) (hW.fl hgm (pr_st (hW.rd hgm) (Nat.le_of_ble_eq_true rfl)) 3 (by decide) rfl (by decide)) dX1_stalks_21 ?_
      refine lv_iload_n hx hb dX1_stalks_24 rfl (lv_at hl 1 rfl) ?_
      refine ww_iald hx hb hW 54 0 (pr_st (hW.rd hgm) (Nat.le_of_ble_eq_true rfl)) rfl hc6 dX1_stalks_25 ?_
      refine lv_goto (tgt := 30) hx hb dX1_stalks_26 (by decide) ?_
      exact hL30 σ (gA_ σ 54 0 a1.toNatClampNeg) _ _ ls hW (lv_sub hl [] rfl) hs
set_option maxHeartbeats 4000000 in
theorem c_X1_edge (g : wg_T) (hgm : gm g = true) (l : Launch) (L : ly_T) (σ : st_T) (a1 : Int32) (a2 : Int32) (hst : l.stackTraces = false) (o_ : Nat ⊕ Unit) (hs : m_X1_edge a1 a2 = some o_) : XV g l yX1_edge (ws_ yX1_edge cX1_edge 2 none) 9 160 (xc o_) (xs o_) [.int a1, .int a2] L σ o_ σ := by
  refine xbody.met (by decide) (Nat.le_of_ble_eq_true rfl) ?_
  intro p e s m args below meth c ls hx hb hr hml hlocks hts hown hnm hout hW hl
  have hown : s.vm.findClass RX1 = some m.cls := hown
  have hl : lv_has ls 2 [(0, .int a1), (1, .int a2)] := hl
  unfold m_X1_edge at hs
  have hL21 : ∀ (σ : st_T) (t0 : Int32) (H : Heap) (locs : List Loc) (ls : Array Slot), wv g L σ s H locs → lv_has ls 2 [] → m_X1_edge_L21 t0 = some o_ → W p l e (wrm 9 160 (xc o_) (xs o_)) s m args below meth c H locs 0 0 (vx_MQ below (wXv g L o_ σ) (wX g o_ σ L) args s (xc o_) (xs o_) (fun q => gz g ≤ q)) (F0 m 21 ls [.int t0]) := by
    intro σ t0 H locs ls hW hl hs
    unfold m_X1_edge_L21 at hs
    obtain ⟨o3, hc1, hs⟩ := ww_bnd hs
    rcases o3 with k4 | v5
    · have hs := ww_sL hs
      have hs := ww_S hs
      subst hs
      exact wx_prop (vx_runS (As := [.int t0]) (rest := []) ⟨hx, hb, hml, hown, hts⟩ (c_X1_wrong g hgm l L σ t0 hst _ hc1) (va_cwS 1 hts (lw_S q848 q849 q111 q850) rfl rfl rfl hd_X1_wrong.2 ⟨(Nat.le_of_ble_eq_true rfl), (Nat.le_of_ble_eq_true rfl)⟩) (ww_preS hW) rfl rfl hl.1 rfl (lv_room (Nat.le_of_ble_eq_true rfl)) dX1_edge_21 ⟨Nat.le_of_ble_eq_true rfl, Nat.le_of_ble_eq_true rfl⟩) no_v hW hlocks hout rfl rfl (Nat.le_of_ble_eq_true rfl) (Nat.le_of_ble_eq_true rfl)
    · have hs := ww_sR hs
      refine ww_xv0 (vx_runS (As := [.int t0]) (rest := []) ⟨hx, hb, hml, hown, hts⟩ (c_X1_wrong g hgm l L σ t0 hst _ hc1) (va_cwS 1 hts (lw_S q848 q849 q111 q850) rfl rfl rfl hd_X1_wrong.2 ⟨(Nat.le_of_ble_eq_true rfl), (Nat.le_of_ble_eq_true rfl)⟩) (ww_preS hW) rfl rfl hl.1 rfl (lv_room (Nat.le_of_ble_eq_true rfl)) dX1_edge_21 ⟨Nat.zero_le _, Nat.zero_le _⟩) hW (fun H locs hW => ?_)
      have hs := ww_S hs
      exact wx_v hx hb hr hlocks hW hs rfl (Nat.zero_le _) (Nat.zero_le _) dX1_edge_24
  refine lv_iload_n hx hb dX1_edge_0 rfl (lv_at hl 0 rfl) ?_
  obtain ⟨o8, hc6, hs⟩ := ww_bnd hs
  rcases o8 with k9 | v10
  · have hs := ww_sL hs
    have hs := ww_S hs
    subst hs
    exact wx_prop (vx_runS (As := [.int a1]) (rest := []) ⟨hx, hb, hml, hown, hts⟩ (c_X1_cell g hgm l L σ a1 hst _ hc6) (va_cwS 1 hts (lw_S q821 q822 q111 q823) rfl rfl rfl hd_X1_cell.2 ⟨(Nat.le_of_ble_eq_true rfl), (Nat.le_of_ble_eq_true rfl)⟩) (ww_preS hW) rfl rfl hl.1 rfl (lv_room (Nat.le_of_ble_eq_true rfl)) dX1_edge_1 ⟨Nat.le_of_ble_eq_true rfl, Nat.le_of_ble_eq_true rfl⟩) no_v hW hlocks hout rfl rfl (Nat.le_of_ble_eq_true rfl) (Nat.le_of_ble_eq_true rfl)
  · have hs := ww_sR hs
    refine ww_xv0 (vx_runS (As := [.int a1]) (rest := []) ⟨hx, hb, hml, hown, hts⟩ (c_X1_cell g hgm l L σ a1 hst _ hc6) (va_cwS 1 hts (lw_S q821 q822 q111 q823) rfl rfl rfl hd_X1_cell.2 ⟨(Nat.le_of_ble_eq_true rfl), (Nat.le_of_ble_eq_true rfl)⟩) (ww_preS hW) rfl rfl hl.1 rfl (lv_room (Nat.le_of_ble_eq_true rfl)) dX1_edge_1 ⟨Nat.zero_le _, Nat.zero_le _⟩) hW (fun H locs hW => ?_)
    refine lv_iload_n hx hb dX1_edge_4 rfl (lv_at hl 1 rfl) ?_
    obtain ⟨o13, hc11, hs⟩ := ww_bnd hs
    rcases o13 with k14 | v15
    · have hs := ww_sL hs
      have hs := ww_S hs
      subst hs
      exact wx_prop (vx_runS (As := [.int a2]) (rest := []) ⟨hx, hb, hml, hown, hts⟩ (c_X1_cell g hgm l L σ a2 hst _ hc11) (va_cwS 1 hts (lw_S q821 q822 q111 q823) rfl rfl rfl hd_X1_cell.2 ⟨(Nat.le_of_ble_eq_true rfl), (Nat.le_of_ble_eq_true rfl)⟩) (ww_preS hW) rfl rfl hl.1 rfl (lv_room (Nat.le_of_ble_eq_true rfl)) dX1_edge_5 ⟨Nat.le_of_ble_eq_true rfl, Nat.le_of_ble_eq_true rfl⟩) no_v hW hlocks hout rfl rfl (Nat.le_of_ble_eq_true rfl) (Nat.le_of_ble_eq_true rfl)
    · have hs := ww_sR hs
      refine ww_xv0 (vx_runS (As := [.int a2]) (rest := []) ⟨hx, hb, hml, hown, hts⟩ (c_X1_cell g hgm l L σ a2 hst _ hc11) (va_cwS 1 hts (lw_S q821 q822 q111 q823) rfl rfl rfl hd_X1_cell.2 ⟨(Nat.le_of_ble_eq_true rfl), (Nat.le_of_ble_eq_true rfl)⟩) (ww_preS hW) rfl rfl hl.1 rfl (lv_room (Nat.le_of_ble_eq_true rfl)) dX1_edge_5 ⟨Nat.zero_le _, Nat.zero_le _⟩) hW (fun H locs hW => ?_)
      refine lv_iload_n hx hb dX1_edge_8 rfl (lv_at hl 0 rfl) ?_
      refine lv_iload_n hx hb dX1_edge_9 rfl (lv_at hl 1 rfl) ?_
      obtain ⟨v18, hc16, hs⟩ := ww_bnd hs
      refine ww_ci (va_runS (As := [.int a1, .int a2]) (rest := []) ⟨hx, hb, hml, hown, hts⟩ (c_X1_isBeside g hgm l L σ a1 a2 _ hc16) (va_cwS 2 hts (lw_S q923 q924 q111 q925) rfl rfl rfl hd_X1_isBeside.2 ⟨(Nat.le_of_ble_eq_true rfl), (Nat.le_of_ble_eq_true rfl)⟩) (ww_preS hW) rfl rfl hl.1 rfl (lv_room (Nat.le_of_ble_eq_true rfl)) dX1_edge_10 ⟨Nat.le_of_ble_eq_true rfl, Nat.le_of_ble_eq_true rfl⟩) hW (fun H locs hW => ?_)
      refine lv_if_ne (tgt := 20) hx hb dX1_edge_13 (by decide) (fun hc19 => ?_) (fun hc19 => ?_)
      · have hs := ww_F hs hc19
        refine lv_iconst (v := 0) hx hb dX1_edge_20 (by decide) ?_
        exact hL21 σ (0 : Int32) _ _ ls hW (lv_sub hl [] rfl) hs
      · have hs := ww_T hs hc19
        refine lv_iconst (v := 1) hx hb dX1_edge_16 (by decide) ?_
        refine lv_goto (tgt := 21) hx hb dX1_edge_17 (by decide) ?_
        exact hL21 σ (1 : Int32) _ _ ls hW (lv_sub hl [] rfl) hs
set_option maxHeartbeats 4000000 in
theorem c_X1_fenced (g : wg_T) (hgm : gm g = true) (l : Launch) (L : ly_T) (σ : st_T) (a1 : Int32) (a2 : Int32) (hst : l.stackTraces = false) (o_ : Nat ⊕ Int32) (hs : m_X1_fenced σ a1 a2 = some o_) : XI g l yX1_fenced (ws_ yX1_fenced cX1_fenced 3 (some .int)) 10 181 (xc o_) (xs o_) [.ref (L 1 0), .int a1, .int a2] L σ o_ σ := by
  refine xbody.met (by decide) (Nat.le_of_ble_eq_true rfl) ?_
  intro p e s m args below meth c ls hx hb hr hml hlocks hts hown hnm hout hW hl
  have hown : s.vm.findClass RX1 = some m.cls := hown
  have hl : lv_has ls 3 [(0, .ref (L 1 0)), (1, .int a1), (2, .int a2)] := hl
  unfold m_X1_fenced at hs
  refine lv_iload_n hx hb dX1_fenced_0 rfl (lv_at hl 1 rfl) ?_
  refine lv_iload_n hx hb dX1_fenced_1 rfl (lv_at hl 2 rfl) ?_
  obtain ⟨o3, hc1, hs⟩ := ww_bnd hs
  rcases o3 with k4 | v5
  · have hs := ww_sL hs
    have hs := ww_S hs
    subst hs
    exact wx_prop (vx_runS (As := [.int a1, .int a2]) (rest := []) ⟨hx, hb, hml, hown, hts⟩ (c_X1_edge g hgm l L σ a1 a2 hst _ hc1) (va_cwS 2 hts (lw_S q920 q921 q111 q922) rfl rfl rfl hd_X1_edge.2 ⟨(Nat.le_of_ble_eq_true rfl), (Nat.le_of_ble_eq_true rfl)⟩) (ww_preS hW) rfl rfl hl.1 rfl (lv_room (Nat.le_of_ble_eq_true rfl)) dX1_fenced_2 ⟨Nat.le_of_ble_eq_true rfl, Nat.le_of_ble_eq_true rfl⟩) no_v hW hlocks hout rfl rfl (Nat.le_of_ble_eq_true rfl) (Nat.le_of_ble_eq_true rfl)
  · have hs := ww_sR hs
    refine ww_xv0 (vx_runS (As := [.int a1, .int a2]) (rest := []) ⟨hx, hb, hml, hown, hts⟩ (c_X1_edge g hgm l L σ a1 a2 hst _ hc1) (va_cwS 2 hts (lw_S q920 q921 q111 q922) rfl rfl rfl hd_X1_edge.2 ⟨(Nat.le_of_ble_eq_true rfl), (Nat.le_of_ble_eq_true rfl)⟩) (ww_preS hW) rfl rfl hl.1 rfl (lv_room (Nat.le_of_ble_eq_true rfl)) dX1_fenced_2 ⟨Nat.zero_le _, Nat.zero_le _⟩) hW (fun H locs hW => ?_)
    refine lv_aload_n hx hb dX1_fenced_5 rfl (lv_at hl 0 rfl) ?_
    refine gf_X1_44 hx hb hts hown hW (pr_st (hW.rd hgm) (Nat.le_of_ble_eq_true rfl)) (hW.fl hgm (pr_st (hW.rd hgm) (Nat.le_of_ble_eq_true rfl)) 1 (by decide) rfl (by decide)) dX1_fenced_6 ?_
    refine lv_iload_n hx hb dX1_fenced_9 rfl (lv_at hl 1 rfl) ?_
    refine lv_iload_n hx hb dX1_fenced_10 rfl (lv_at hl 2 rfl) ?_
    obtain ⟨v8, hc6, hs⟩ := ww_bnd hs
    refine ww_ci (va_runV (As := [.int a1, .int a2]) (rest := []) ⟨hx, hb, hml, hown, hts⟩ (c_X2_fence g hgm l L σ 0 a1 a2 _ hc6) (cwV 2 hts (lw_V q927 q556 q557 q112 q558) rfl rfl rfl hd_X2_fence ⟨(Nat.le_of_ble_eq_true rfl), (Nat.le_of_ble_eq_true rfl)⟩) (ww_preV hW (pr_st (hW.rd hgm) (Nat.le_of_ble_eq_true rfl)) (obv_0 rfl) rfl) rfl rfl hl.1 rfl (lv_room (Nat.le_of_ble_eq_true rfl)) dX1_fenced_11 ⟨Nat.le_of_ble_eq_true rfl, Nat.le_of_ble_eq_true rfl⟩) hW (fun H locs hW => ?_)
    have hs := ww_S hs
    exact wx_i hx hb hr hlocks hW hs rfl (Nat.zero_le _) (Nat.zero_le _) dX1_fenced_14
set_option maxHeartbeats 4000000 in
theorem c_X1_fear (g : wg_T) (hgm : gm g = true) (l : Launch) (L : ly_T) (σ : st_T) (a1 : Int32) (hst : l.stackTraces = false) (o_ : Nat ⊕ Int32) (hs : m_X1_fear σ a1 = some o_) : XI g l yX1_fear (ws_ yX1_fear cX1_fear 2 (some .int)) 9 160 (xc o_) (xs o_) [.ref (L 1 0), .int a1] L σ o_ σ := by
  refine xbody.met (by decide) (Nat.le_of_ble_eq_true rfl) ?_
  intro p e s m args below meth c ls hx hb hr hml hlocks hts hown hnm hout hW hl
  have hown : s.vm.findClass RX1 = some m.cls := hown
  have hl : lv_has ls 2 [(0, .ref (L 1 0)), (1, .int a1)] := hl
  unfold m_X1_fear at hs
  refine lv_iload_n hx hb dX1_fear_0 rfl (lv_at hl 1 rfl) ?_
  obtain ⟨o3, hc1, hs⟩ := ww_bnd hs
  rcases o3 with k4 | v5
  · have hs := ww_sL hs
    have hs := ww_S hs
    subst hs
    exact wx_prop (vx_runS (As := [.int a1]) (rest := []) ⟨hx, hb, hml, hown, hts⟩ (c_X1_cell g hgm l L σ a1 hst _ hc1) (va_cwS 1 hts (lw_S q821 q822 q111 q823) rfl rfl rfl hd_X1_cell.2 ⟨(Nat.le_of_ble_eq_true rfl), (Nat.le_of_ble_eq_true rfl)⟩) (ww_preS hW) rfl rfl hl.1 rfl (lv_room (Nat.le_of_ble_eq_true rfl)) dX1_fear_1 ⟨Nat.le_of_ble_eq_true rfl, Nat.le_of_ble_eq_true rfl⟩) no_v hW hlocks hout rfl rfl (Nat.le_of_ble_eq_true rfl) (Nat.le_of_ble_eq_true rfl)
  · have hs := ww_sR hs
    refine ww_xv0 (vx_runS (As := [.int a1]) (rest := []) ⟨hx, hb, hml, hown, hts⟩ (c_X1_cell g hgm l L σ a1 hst _ hc1) (va_cwS 1 hts (lw_S q821 q822 q111 q823) rfl rfl rfl hd_X1_cell.2 ⟨(Nat.le_of_ble_eq_true rfl), (Nat.le_of_ble_eq_true rfl)⟩) (ww_preS hW) rfl rfl hl.1 rfl (lv_room (Nat.le_of_ble_eq_true rfl)) dX1_fear_1 ⟨Nat.zero_le _, Nat.zero_le _⟩) hW (fun H locs hW => ?_)
    refine lv_aload_n hx hb dX1_fear_4 rfl (lv_at hl 0 rfl) ?_
    refine gf_X1_44 hx hb hts hown hW (pr_st (hW.rd hgm) (Nat.le_of_ble_eq_true rfl)) (hW.fl hgm (pr_st (hW.rd hgm) (Nat.le_of_ble_eq_true rfl)) 1 (by decide) rfl (by decide)) dX1_fear_5 ?_
    refine gf_X1_240 hx hb hts hown hW (pr_st (hW.rd hgm) (Nat.le_of_ble_eq_true rfl)) (hW.fl hgm (pr_st (hW.rd hgm) (Nat.le_of_ble_eq_true rfl)) 4 (by decide) rfl (by decide)) dX1_fear_8 ?_
    refine lv_iload_n hx hb dX1_fear_11 rfl (lv_at hl 1 rfl) ?_
    obtain ⟨hc6, hs⟩ := ww_chk hs
    refine ww_iald hx hb hW 55 0 (pr_st (hW.rd hgm) (Nat.le_of_ble_eq_true rfl)) rfl hc6 dX1_fear_12 ?_
    have hs := ww_S hs
    exact wx_i hx hb hr hlocks hW hs rfl (Nat.zero_le _) (Nat.zero_le _) dX1_fear_13
set_option maxHeartbeats 4000000 in
theorem c_X1_like (g : wg_T) (hgm : gm g = true) (l : Launch) (L : ly_T) (σ : st_T) (a1 : Int32) (a2 : Int32) (hst : l.stackTraces = false) (o_ : Nat ⊕ Int32) (hs : m_X1_like σ a1 a2 = some o_) : XI g l yX1_like (ws_ yX1_like cX1_like 3 (some .int)) 9 160 (xc o_) (xs o_) [.ref (L 1 0), .int a1, .int a2] L σ o_ σ := by
  refine xbody.met (by decide) (Nat.le_of_ble_eq_true rfl) ?_
  intro p e s m args below meth c ls hx hb hr hml hlocks hts hown hnm hout hW hl
  have hown : s.vm.findClass RX1 = some m.cls := hown
  have hl : lv_has ls 3 [(0, .ref (L 1 0)), (1, .int a1), (2, .int a2)] := hl
  unfold m_X1_like at hs
  have hL24 : ∀ (σ : st_T) (x1 : Int32) (x2 : Int32) (t0 : Int32) (H : Heap) (locs : List Loc) (ls : Array Slot), wv g L σ s H locs → lv_has ls 3 [(0, .ref (L 1 0)), (1, .int x1), (2, .int x2)] → m_X1_like_L24 σ x1 x2 t0 = some o_ → W p l e (wrm 9 160 (xc o_) (xs o_)) s m args below meth c H locs 0 0 (vx_MQ below (wXi g L o_ σ) (wX g o_ σ L) args s (xc o_) (xs o_) (fun q => gz g ≤ q)) (F0 m 24 ls [.int t0]) := by
    intro σ x1 x2 t0 H locs ls hW hl hs
    unfold m_X1_like_L24 at hs
    obtain ⟨o3, hc1, hs⟩ := ww_bnd hs
    rcases o3 with k4 | v5
    · have hs := ww_sL hs
      have hs := ww_S hs
      subst hs
      exact wx_prop (vx_runS (As := [.int t0]) (rest := []) ⟨hx, hb, hml, hown, hts⟩ (c_X1_wrong g hgm l L σ t0 hst _ hc1) (va_cwS 1 hts (lw_S q848 q849 q111 q850) rfl rfl rfl hd_X1_wrong.2 ⟨(Nat.le_of_ble_eq_true rfl), (Nat.le_of_ble_eq_true rfl)⟩) (ww_preS hW) rfl rfl hl.1 rfl (lv_room (Nat.le_of_ble_eq_true rfl)) dX1_like_24 ⟨Nat.le_of_ble_eq_true rfl, Nat.le_of_ble_eq_true rfl⟩) no_v hW hlocks hout rfl rfl (Nat.le_of_ble_eq_true rfl) (Nat.le_of_ble_eq_true rfl)
    · have hs := ww_sR hs
      refine ww_xv0 (vx_runS (As := [.int t0]) (rest := []) ⟨hx, hb, hml, hown, hts⟩ (c_X1_wrong g hgm l L σ t0 hst _ hc1) (va_cwS 1 hts (lw_S q848 q849 q111 q850) rfl rfl rfl hd_X1_wrong.2 ⟨(Nat.le_of_ble_eq_true rfl), (Nat.le_of_ble_eq_true rfl)⟩) (ww_preS hW) rfl rfl hl.1 rfl (lv_room (Nat.le_of_ble_eq_true rfl)) dX1_like_24 ⟨Nat.zero_le _, Nat.zero_le _⟩) hW (fun H locs hW => ?_)
      refine lv_aload_n hx hb dX1_like_27 rfl (lv_at hl 0 rfl) ?_
      refine gf_X1_156 hx hb hts hown hW (pr_st (hW.rd hgm) (Nat.le_of_ble_eq_true rfl)) (hW.fl hgm (pr_st (hW.rd hgm) (Nat.le_of_ble_eq_true rfl)) 31 (by decide) rfl (by decide)) dX1_like_28 ?_
      refine lv_iload_n hx hb dX1_like_31 rfl (lv_at hl 1 rfl) ?_
      refine lv_iload_n hx hb dX1_like_32 rfl (lv_at hl 2 rfl) ?_
      obtain ⟨v8, hc6, hs⟩ := ww_bnd hs
      obtain ⟨hc9, hs⟩ := ww_chk hs
      refine ww_ci (va_runV (As := [.int x1, .int x2]) (rest := []) ⟨hx, hb, hml, hown, hts⟩ (c_X5_like g hgm l L σ (gP_ σ 1 31 0) x1 x2 _ hc6) (cwV 2 hts (lw_V q568 q569 q570 q118 q571) rfl rfl rfl hd_X5_like ⟨(Nat.le_of_ble_eq_true rfl), (Nat.le_of_ble_eq_true rfl)⟩) (ww_preV hW (pr_dy hc9 rfl rfl) (obv_0 rfl) rfl) rfl rfl hl.1 rfl (lv_room (Nat.le_of_ble_eq_true rfl)) dX1_like_33 ⟨Nat.le_of_ble_eq_true rfl, Nat.le_of_ble_eq_true rfl⟩) hW (fun H locs hW => ?_)
      have hs := ww_S hs
      exact wx_i hx hb hr hlocks hW hs rfl (Nat.zero_le _) (Nat.zero_le _) dX1_like_36
  have hL19 : ∀ (σ : st_T) (x1 : Int32) (x2 : Int32) (H : Heap) (locs : List Loc) (ls : Array Slot), wv g L σ s H locs → lv_has ls 3 [(0, .ref (L 1 0)), (1, .int x1), (2, .int x2)] → (m_X1_like_L19 m_X1_like_L24) σ x1 x2 = some o_ → W p l e (wrm 9 160 (xc o_) (xs o_)) s m args below meth c H locs 0 0 (vx_MQ below (wXi g L o_ σ) (wX g o_ σ L) args s (xc o_) (xs o_) (fun q => gz g ≤ q)) (F0 m 19 ls []) := by
    intro σ x1 x2 H locs ls hW hl hs
    unfold m_X1_like_L19 at hs
    refine lv_iconst (v := 1) hx hb dX1_like_19 (by decide) ?_
    refine lv_goto (tgt := 24) hx hb dX1_like_20 (by decide) ?_
    exact hL24 σ x1 x2 (1 : Int32) _ _ ls hW (lv_sub hl [0, 1, 2] rfl) hs
  refine lv_iload_n hx hb dX1_like_0 rfl (lv_at hl 1 rfl) ?_
  refine lv_iconst (v := 0) hx hb dX1_like_1 (by decide) ?_
  refine lv_iconst (v := 3) hx hb dX1_like_2 (by decide) ?_
  obtain ⟨v12, hc10, hs⟩ := ww_bnd hs
  refine ww_ci (va_runS (As := [.int a1, .int (0 : Int32), .int (3 : Int32)]) (rest := []) ⟨hx, hb, hml, hown, hts⟩ (c_X1_in g hgm l L σ a1 (0 : Int32) (3 : Int32) _ hc10) (va_cwS 3 hts (lw_S q824 q825 q111 q826) rfl rfl rfl hd_X1_in.2 ⟨(Nat.le_of_ble_eq_true rfl), (Nat.le_of_ble_eq_true rfl)⟩) (ww_preS hW) rfl rfl hl.1 rfl (lv_room (Nat.le_of_ble_eq_true rfl)) dX1_like_3 ⟨Nat.le_of_ble_eq_true rfl, Nat.le_of_ble_eq_true rfl⟩) hW (fun H locs hW => ?_)
  refine lv_if_eq (tgt := 19) hx hb dX1_like_6 (by decide) (fun hc13 => ?_) (fun hc13 => ?_)
  · have hs := ww_T hs hc13
    exact hL19 σ a1 a2 _ _ ls hW (lv_sub hl [0, 1, 2] rfl) hs
  · have hs := ww_F hs hc13
    refine lv_iload_n hx hb dX1_like_9 rfl (lv_at hl 2 rfl) ?_
    refine lv_iconst (v := 0) hx hb dX1_like_10 (by decide) ?_
    refine lv_bipush (v := 11) hx hb dX1_like_11 (by decide) ?_
    obtain ⟨v16, hc14, hs⟩ := ww_bnd hs
    refine ww_ci (va_runS (As := [.int a2, .int (0 : Int32), .int (11 : Int32)]) (rest := []) ⟨hx, hb, hml, hown, hts⟩ (c_X1_in g hgm l L σ a2 (0 : Int32) (11 : Int32) _ hc14) (va_cwS 3 hts (lw_S q824 q825 q111 q826) rfl rfl rfl hd_X1_in.2 ⟨(Nat.le_of_ble_eq_true rfl), (Nat.le_of_ble_eq_true rfl)⟩) (ww_preS hW) rfl rfl hl.1 rfl (lv_room (Nat.le_of_ble_eq_true rfl)) dX1_like_13 ⟨Nat.le_of_ble_eq_true rfl, Nat.le_of_ble_eq_true rfl⟩) hW (fun H locs hW => ?_)
    refine lv_if_ne (tgt := 23) hx hb dX1_like_16 (by decide) (fun hc17 => ?_) (fun hc17 => ?_)
    · have hs := ww_F hs hc17
      refine lv_iconst (v := 0) hx hb dX1_like_23 (by decide) ?_
      exact hL24 σ a1 a2 (0 : Int32) _ _ ls hW (lv_sub hl [0, 1, 2] rfl) hs
    · have hs := ww_T hs hc17
      exact hL19 σ a1 a2 _ _ ls hW (lv_sub hl [0, 1, 2] rfl) hs
set_option maxHeartbeats 4000000 in
theorem c_X1_watch_2 (g : wg_T) (hgm : gm g = true) (l : Launch) (L : ly_T) (σ : st_T) (a1 : Int32) (a2 : Int32) (hst : l.stackTraces = false) (o_ : Nat ⊕ Int32) (σ_ : st_T) (hs : m_X1_watch_2 σ a1 a2 = some (o_, σ_)) : XI g l yX1_watch_2 (ws_ yX1_watch_2 cX1_watch_2 3 (some .int)) 10 180 (xc o_) (xs o_) [.ref (L 1 0), .int a1, .int a2] L σ o_ σ_ := by
  refine xbody.met (by decide) (Nat.le_of_ble_eq_true rfl) ?_
  intro p e s m args below meth c ls hx hb hr hml hlocks hts hown hnm hout hW hl
  have hown : s.vm.findClass RX1 = some m.cls := hown
  have hl : lv_has ls 3 [(0, .ref (L 1 0)), (1, .int a1), (2, .int a2)] := hl
  unfold m_X1_watch_2 at hs
  refine lv_iload_n hx hb dX1_watch_2_0 rfl (lv_at hl 2 rfl) ?_
  obtain ⟨o3, hc1, hs⟩ := ww_bnd hs
  rcases o3 with k4 | v5
  · have hs := ww_sL hs
    have hs := ww_S hs
    have e1 : o_ = .inl k4 := congrArg Prod.fst hs
    have e2 : σ_ = σ := congrArg Prod.snd hs
    subst e1
    exact wx_prop (vx_runS (As := [.int a2]) (rest := []) ⟨hx, hb, hml, hown, hts⟩ (c_X1_cell g hgm l L σ a2 hst _ hc1) (va_cwS 1 hts (lw_S q821 q822 q111 q823) rfl rfl rfl hd_X1_cell.2 ⟨(Nat.le_of_ble_eq_true rfl), (Nat.le_of_ble_eq_true rfl)⟩) (ww_preS hW) rfl rfl hl.1 rfl (lv_room (Nat.le_of_ble_eq_true rfl)) dX1_watch_2_1 ⟨Nat.le_of_ble_eq_true rfl, Nat.le_of_ble_eq_true rfl⟩) no_v hW hlocks hout rfl e2 (Nat.le_of_ble_eq_true rfl) (Nat.le_of_ble_eq_true rfl)
  · have hs := ww_sR hs
    refine ww_xv0 (vx_runS (As := [.int a2]) (rest := []) ⟨hx, hb, hml, hown, hts⟩ (c_X1_cell g hgm l L σ a2 hst _ hc1) (va_cwS 1 hts (lw_S q821 q822 q111 q823) rfl rfl rfl hd_X1_cell.2 ⟨(Nat.le_of_ble_eq_true rfl), (Nat.le_of_ble_eq_true rfl)⟩) (ww_preS hW) rfl rfl hl.1 rfl (lv_room (Nat.le_of_ble_eq_true rfl)) dX1_watch_2_1 ⟨Nat.zero_le _, Nat.zero_le _⟩) hW (fun H locs hW => ?_)
    refine lv_iload_n hx hb dX1_watch_2_4 rfl (lv_at hl 1 rfl) ?_
    obtain ⟨o8, hc6, hs⟩ := ww_bnd hs
    rcases o8 with k9 | v10
    · have hs := ww_sL hs
      have hs := ww_S hs
      have e1 : o_ = .inl k9 := congrArg Prod.fst hs
      have e2 : σ_ = σ := congrArg Prod.snd hs
      subst e1
      exact wx_prop (vx_runS (As := [.int a1]) (rest := []) ⟨hx, hb, hml, hown, hts⟩ (c_X1_family g hgm l L σ a1 hst _ hc6) (va_cwS 1 hts (lw_S q896 q897 q111 q898) rfl rfl rfl hd_X1_family.2 ⟨(Nat.le_of_ble_eq_true rfl), (Nat.le_of_ble_eq_true rfl)⟩) (ww_preS hW) rfl rfl hl.1 rfl (lv_room (Nat.le_of_ble_eq_true rfl)) dX1_watch_2_5 ⟨Nat.le_of_ble_eq_true rfl, Nat.le_of_ble_eq_true rfl⟩) no_v hW hlocks hout rfl e2 (Nat.le_of_ble_eq_true rfl) (Nat.le_of_ble_eq_true rfl)
    · have hs := ww_sR hs
      refine ww_xv0 (vx_runS (As := [.int a1]) (rest := []) ⟨hx, hb, hml, hown, hts⟩ (c_X1_family g hgm l L σ a1 hst _ hc6) (va_cwS 1 hts (lw_S q896 q897 q111 q898) rfl rfl rfl hd_X1_family.2 ⟨(Nat.le_of_ble_eq_true rfl), (Nat.le_of_ble_eq_true rfl)⟩) (ww_preS hW) rfl rfl hl.1 rfl (lv_room (Nat.le_of_ble_eq_true rfl)) dX1_watch_2_5 ⟨Nat.zero_le _, Nat.zero_le _⟩) hW (fun H locs hW => ?_)
      refine lv_aload_n hx hb dX1_watch_2_8 rfl (lv_at hl 0 rfl) ?_
      refine gf_X1_296 hx hb hts hown hW (pr_st (hW.rd hgm) (Nat.le_of_ble_eq_true rfl)) dX1_watch_2_9 ?_
      refine lv_bipush (v := 10) hx hb dX1_watch_2_12 (by decide) ?_
      refine lv_icmp_ne (tgt := 19) hx hb dX1_watch_2_14 (by decide) (fun hc11 => ?_) (fun hc11 => ?_)
      · have hs := ww_F hs hc11
        refine lv_aload_n hx hb dX1_watch_2_19 rfl (lv_at hl 0 rfl) ?_
        refine lv_iload_n hx hb dX1_watch_2_20 rfl (lv_at hl 1 rfl) ?_
        obtain ⟨v14, hc12, hs⟩ := ww_bnd hs
        refine ww_ci (va_runV (As := [.int a1]) (rest := []) ⟨hx, hb, hml, hown, hts⟩ (c_X1_isTold g hgm l L σ a1 _ hc12) (cwV 1 hts (lw_V q714 q716 qs9 q111 q717) rfl rfl rfl hd_X1_isTold ⟨(Nat.le_of_ble_eq_true rfl), (Nat.le_of_ble_eq_true rfl)⟩) (ww_preV hW (pr_st (hW.rd hgm) (Nat.le_of_ble_eq_true rfl)) (obv_0 rfl) rfl) rfl rfl hl.1 rfl (lv_room (Nat.le_of_ble_eq_true rfl)) dX1_watch_2_21 ⟨Nat.le_of_ble_eq_true rfl, Nat.le_of_ble_eq_true rfl⟩) hW (fun H locs hW => ?_)
        refine lv_if_eq (tgt := 30) hx hb dX1_watch_2_24 (by decide) (fun hc15 => ?_) (fun hc15 => ?_)
        · have hs := ww_T hs hc15
          refine lv_aload_n hx hb dX1_watch_2_30 rfl (lv_at hl 0 rfl) ?_
          refine gf_X1_130 hx hb hts hown hW (pr_st (hW.rd hgm) (Nat.le_of_ble_eq_true rfl)) (hW.fl hgm (pr_st (hW.rd hgm) (Nat.le_of_ble_eq_true rfl)) 25 (by decide) rfl (by decide)) dX1_watch_2_31 ?_
          refine lv_iload_n hx hb dX1_watch_2_34 rfl (lv_at hl 1 rfl) ?_
          obtain ⟨hc16, hs⟩ := ww_chk hs
          refine ww_zald hx hb hW 35 0 (pr_st (hW.rd hgm) (Nat.le_of_ble_eq_true rfl)) rfl hc16 dX1_watch_2_35 ?_
          refine lv_if_eq (tgt := 42) hx hb dX1_watch_2_36 (by decide) (fun hc17 => ?_) (fun hc17 => ?_)
          · have hs := ww_T hs hc17
            refine lv_aload_n hx hb dX1_watch_2_42 rfl (lv_at hl 0 rfl) ?_
            refine gf_X1_88 hx hb hts hown hW (pr_st (hW.rd hgm) (Nat.le_of_ble_eq_true rfl)) (hW.fl hgm (pr_st (hW.rd hgm) (Nat.le_of_ble_eq_true rfl)) 11 (by decide) rfl (by decide)) dX1_watch_2_43 ?_
            refine lv_aload_n hx hb dX1_watch_2_46 rfl (lv_at hl 0 rfl) ?_
            refine gf_X1_296 hx hb hts hown hW (pr_st (hW.rd hgm) (Nat.le_of_ble_eq_true rfl)) dX1_watch_2_47 ?_
            refine lv_iload_n hx hb dX1_watch_2_50 rfl (lv_at hl 1 rfl) ?_
            obtain ⟨hc18, hs⟩ := ww_chk hs
            obtain ⟨σ19, e20, hs⟩ := ww_let hs
            refine ww_iast hx hb hW 21 0 (pr_st (hW.rd hgm) (Nat.le_of_ble_eq_true rfl)) rfl hc18 dX1_watch_2_51 (fun H locs hW => ?_)
            have hW : wv g L σ19 s H locs := by rw [e20]; exact hW
            refine lv_aload_n hx hb dX1_watch_2_52 rfl (lv_at hl 0 rfl) ?_
            refine gf_X1_91 hx hb hts hown hW (pr_st (hW.rd hgm) (Nat.le_of_ble_eq_true rfl)) (hW.fl hgm (pr_st (hW.rd hgm) (Nat.le_of_ble_eq_true rfl)) 12 (by decide) rfl (by decide)) dX1_watch_2_53 ?_
            refine lv_aload_n hx hb dX1_watch_2_56 rfl (lv_at hl 0 rfl) ?_
            refine gf_X1_296 hx hb hts hown hW (pr_st (hW.rd hgm) (Nat.le_of_ble_eq_true rfl)) dX1_watch_2_57 ?_
            refine lv_iload_n hx hb dX1_watch_2_60 rfl (lv_at hl 2 rfl) ?_
            obtain ⟨hc21, hs⟩ := ww_chk hs
            obtain ⟨σ22, e23, hs⟩ := ww_let hs
            refine ww_iast hx hb hW 22 0 (pr_st (hW.rd hgm) (Nat.le_of_ble_eq_true rfl)) rfl hc21 dX1_watch_2_61 (fun H locs hW => ?_)
            have hW : wv g L σ22 s H locs := by rw [e23]; exact hW
            refine lv_aload_n hx hb dX1_watch_2_62 rfl (lv_at hl 0 rfl) ?_
            refine lv_dup hx hb dX1_watch_2_63 rfl ?_
            refine gf_X1_296 hx hb hts hown hW (pr_st (hW.rd hgm) (Nat.le_of_ble_eq_true rfl)) dX1_watch_2_64 ?_
            refine lv_iconst (v := 1) hx hb dX1_watch_2_67 (by decide) ?_
            refine lv_iadd hx hb dX1_watch_2_68 ?_
            obtain ⟨σ24, e25, hs⟩ := ww_let hs
            refine pf_X1_296 hx hb hts hown hW (pr_st (hW.rd hgm) (Nat.le_of_ble_eq_true rfl)) dX1_watch_2_69 (fun H locs hW => ?_)
            have hW : wv g L σ24 s H locs := by rw [e25]; exact hW
            refine lv_aload_n hx hb dX1_watch_2_72 rfl (lv_at hl 0 rfl) ?_
            refine gf_X1_296 hx hb hts hown hW (pr_st (hW.rd hgm) (Nat.le_of_ble_eq_true rfl)) dX1_watch_2_73 ?_
            have hs := ww_S hs
            exact wx_i hx hb hr hlocks hW (congrArg Prod.fst hs) (congrArg Prod.snd hs) (Nat.zero_le _) (Nat.zero_le _) dX1_watch_2_76
          · have hs := ww_F hs hc17
            refine lv_bipush (v := (-3)) hx hb dX1_watch_2_39 (by decide) ?_
            have hs := ww_S hs
            exact wx_i hx hb hr hlocks hW (congrArg Prod.fst hs) (congrArg Prod.snd hs) (Nat.zero_le _) (Nat.zero_le _) dX1_watch_2_41
        · have hs := ww_F hs hc15
          refine lv_bipush (v := (-2)) hx hb dX1_watch_2_27 (by decide) ?_
          have hs := ww_S hs
          exact wx_i hx hb hr hlocks hW (congrArg Prod.fst hs) (congrArg Prod.snd hs) (Nat.zero_le _) (Nat.zero_le _) dX1_watch_2_29
      · have hs := ww_T hs hc11
        refine lv_iconst (v := (-1)) hx hb dX1_watch_2_17 (by decide) ?_
        have hs := ww_S hs
        exact wx_i hx hb hr hlocks hW (congrArg Prod.fst hs) (congrArg Prod.snd hs) (Nat.zero_le _) (Nat.zero_le _) dX1_watch_2_18
set_option maxHeartbeats 4000000 in
theorem c_X1_harm (g : wg_T) (hgm : gm g = true) (l : Launch) (L : ly_T) (σ : st_T) (a1 : Int32) (a2 : Int32) (a3 : Int32) (a4 : Int32) (hst : l.stackTraces = false) (o_ : Nat ⊕ Int32) (hs : m_X1_harm σ a1 a2 a3 a4 = some o_) : XI g l yX1_harm (ws_ yX1_harm cX1_harm 8 (some .int)) 10 180 (xc o_) (xs o_) [.ref (L 1 0), .int a1, .int a2, .int a3, .int a4] L σ o_ σ := by
  refine xbody.met (by decide) (Nat.le_of_ble_eq_true rfl) ?_
  intro p e s m args below meth c ls hx hb hr hml hlocks hts hown hnm hout hW hl
  have hown : s.vm.findClass RX1 = some m.cls := hown
  have hl : lv_has ls 8 [(0, .ref (L 1 0)), (1, .int a1), (2, .int a2), (3, .int a3), (4, .int a4)] := hl
  unfold m_X1_harm at hs
  have hL10 : ∀ (n10 : Nat), ∀ (σ : st_T) (x1 : Int32) (x2 : Int32) (x3 : Int32) (x4 : Int32) (x5 : Int32) (x6 : Int32) (H : Heap) (locs : List Loc) (ls : Array Slot), wv g L σ s H locs → lv_has ls 8 [(0, .ref (L 1 0)), (1, .int x1), (2, .int x2), (3, .int x3), (4, .int x4), (5, .int x5), (6, .int x6)] → (m_X1_harm_L10 n10) σ x1 x2 x3 x4 x5 x6 = some o_ → W p l e (wrm 10 180 (xc o_) (xs o_)) s m args below meth c H locs 0 0 (vx_MQ below (wXi g L o_ σ) (wX g o_ σ L) args s (xc o_) (xs o_) (fun q => gz g ≤ q)) (F0 m 10 ls []) := by
    intro n10
    induction n10 with
    | zero => intro σ x1 x2 x3 x4 x5 x6 H locs ls hW hl hs; rw [m_X1_harm_L10] at hs; cases hs
    | succ n10 ih10 =>
      have hL71 : ∀ (σ : st_T) (x1 : Int32) (x2 : Int32) (x3 : Int32) (x4 : Int32) (x6 : Int32) (t0 : Int32) (t1 : Int32) (H : Heap) (locs : List Loc) (ls : Array Slot), wv g L σ s H locs → lv_has ls 8 [(0, .ref (L 1 0)), (1, .int x1), (2, .int x2), (3, .int x3), (4, .int x4), (6, .int x6)] → (m_X1_harm_L71 (m_X1_harm_L10 n10)) σ x1 x2 x3 x4 x6 t0 t1 = some o_ → W p l e (wrm 10 180 (xc o_) (xs o_)) s m args below meth c H locs 0 0 (vx_MQ below (wXi g L o_ σ) (wX g o_ σ L) args s (xc o_) (xs o_) (fun q => gz g ≤ q)) (F0 m 71 ls [.int t1, .int t0]) := by
        intro σ x1 x2 x3 x4 x6 t0 t1 H locs ls hW hl hs
        unfold m_X1_harm_L71 at hs
        refine lv_iadd hx hb dX1_harm_71 ?_
        refine lv_istore (lv' := [(5, .int (t0 + t1)), (0, .ref (L 1 0)), (1, .int x1), (2, .int x2), (3, .int x3), (4, .int x4), (6, .int x6)]) hx hb dX1_harm_72 hl (by decide) rfl (fun ls hl => ?_)
        refine lv_iinc (v := (x6 + (1 : Int32))) (lv' := [(6, .int (x6 + (1 : Int32))), (5, .int (t0 + t1)), (0, .ref (L 1 0)), (1, .int x1), (2, .int x2), (3, .int x3), (4, .int x4)]) hx hb dX1_harm_74 hl (k := 6) rfl rfl (by decide) rfl (fun ls hl => ?_)
        refine lv_goto (tgt := 10) hx hb dX1_harm_77 (by decide) ?_
        exact ih10 σ x1 x2 x3 x4 (t0 + t1) (x6 + (1 : Int32)) _ _ ls hW (lv_sub hl [2, 3, 4, 5, 6, 1, 0] rfl) hs
      have hL70 : ∀ (σ : st_T) (x1 : Int32) (x2 : Int32) (x3 : Int32) (x4 : Int32) (x6 : Int32) (t0 : Int32) (H : Heap) (locs : List Loc) (ls : Array Slot), wv g L σ s H locs → lv_has ls 8 [(0, .ref (L 1 0)), (1, .int x1), (2, .int x2), (3, .int x3), (4, .int x4), (6, .int x6)] → (m_X1_harm_L70 (m_X1_harm_L71 (m_X1_harm_L10 n10))) σ x1 x2 x3 x4 x6 t0 = some o_ → W p l e (wrm 10 180 (xc o_) (xs o_)) s m args below meth c H locs 0 0 (vx_MQ below (wXi g L o_ σ) (wX g o_ σ L) args s (xc o_) (xs o_) (fun q => gz g ≤ q)) (F0 m 70 ls [.int t0]) := by
        intro σ x1 x2 x3 x4 x6 t0 H locs ls hW hl hs
        unfold m_X1_harm_L70 at hs
        refine lv_iconst (v := 0) hx hb dX1_harm_70 (by decide) ?_
        exact hL71 σ x1 x2 x3 x4 x6 t0 (0 : Int32) _ _ ls hW (lv_sub hl [0, 1, 2, 3, 4, 5] rfl) hs
      intro σ x1 x2 x3 x4 x5 x6 H locs ls hW hl hs
      rw [m_X1_harm_L10] at hs
      refine lv_iload hx hb dX1_harm_10 (lv_at hl 6 rfl) ?_
      refine lv_aload_n hx hb dX1_harm_12 rfl (lv_at hl 0 rfl) ?_
      refine gf_X1_75 hx hb hts hown hW (pr_st (hW.rd hgm) (Nat.le_of_ble_eq_true rfl)) (hW.fl hgm (pr_st (hW.rd hgm) (Nat.le_of_ble_eq_true rfl)) 7 (by decide) rfl (by decide)) dX1_harm_13 ?_
      refine ww_ci (va_runV (As := []) (rest := [.int x6]) ⟨hx, hb, hml, hown, hts⟩ (c_AL_size g hgm l L σ 72 0 73 rfl rfl (pr_st (hW.rd hgm) (Nat.le_of_ble_eq_true rfl))) (cwV 0 hts (lw_V q514 q515 q516 q117 q517) rfl rfl rfl hd_J2_size ⟨(Nat.le_of_ble_eq_true rfl), (Nat.le_of_ble_eq_true rfl)⟩) (ww_preV hW (pr_st (hW.rd hgm) (Nat.le_of_ble_eq_true rfl)) (obv_0 rfl) rfl) rfl rfl hl.1 rfl (lv_room (Nat.le_of_ble_eq_true rfl)) dX1_harm_16 ⟨Nat.zero_le _, Nat.zero_le _⟩) hW (fun H locs hW => ?_)
      refine lv_icmp_ge (tgt := 80) hx hb dX1_harm_19 (by decide) (fun hc1 => ?_) (fun hc1 => ?_)
      · have hs := ww_T hs hc1
        refine lv_iload hx hb dX1_harm_80 (lv_at hl 5 rfl) ?_
        have hs := ww_S hs
        exact wx_i hx hb hr hlocks hW hs rfl (Nat.zero_le _) (Nat.zero_le _) dX1_harm_82
      · have hs := ww_F hs hc1
        refine lv_aload_n hx hb dX1_harm_22 rfl (lv_at hl 0 rfl) ?_
        refine gf_X1_75 hx hb hts hown hW (pr_st (hW.rd hgm) (Nat.le_of_ble_eq_true rfl)) (hW.fl hgm (pr_st (hW.rd hgm) (Nat.le_of_ble_eq_true rfl)) 7 (by decide) rfl (by decide)) dX1_harm_23 ?_
        refine lv_iload hx hb dX1_harm_26 (lv_at hl 6 rfl) ?_
        obtain ⟨hc2, hs⟩ := ww_chk hs
        refine ww_cr (va_runV (As := [.int x6]) (rest := []) ⟨hx, hb, hml, hown, hts⟩ (c_AL_get g hgm l L σ 72 0 73 83 x6 rfl rfl rfl (pr_st (hW.rd hgm) (Nat.le_of_ble_eq_true rfl)) hc2) (cwV 1 hts (lw_V q518 q519 q520 q117 q521) rfl rfl rfl hd_J2_get ⟨(Nat.le_of_ble_eq_true rfl), (Nat.le_of_ble_eq_true rfl)⟩) (ww_preV hW (pr_st (hW.rd hgm) (Nat.le_of_ble_eq_true rfl)) (obv_0 rfl) rfl) rfl rfl hl.1 rfl (lv_room (Nat.le_of_ble_eq_true rfl)) dX1_harm_28 ⟨Nat.zero_le _, Nat.zero_le _⟩) hW (fun H locs hW => ?_)
        obtain ⟨hc3, hs⟩ := ww_chk hs
        refine ww_castS hx hb hown (hts _ q606) hW (pr_dy hc3 rfl rfl) (obv_0 rfl) rfl dX1_harm_31 ?_
        refine lv_astore (lv' := [(7, .ref (L 83 (gP_ σ 73 (2 + x6.toNatClampNeg) 0))), (0, .ref (L 1 0)), (1, .int x1), (2, .int x2), (3, .int x3), (4, .int x4), (5, .int x5), (6, .int x6)]) hx hb dX1_harm_34 hl (by decide) rfl (fun ls hl => ?_)
        refine lv_iload hx hb dX1_harm_36 (lv_at hl 6 rfl) ?_
        refine lv_aload hx hb dX1_harm_38 (lv_at hl 0 rfl) ?_
        refine gf_X1_407 hx hb hts hown hW (pr_dy hc3 rfl rfl) dX1_harm_40 ?_
        refine lv_iload_n hx hb dX1_harm_43 rfl (lv_at hl 2 rfl) ?_
        refine lv_icmp_ne (tgt := 70) hx hb dX1_harm_44 (by decide) (fun hc4 => ?_) (fun hc4 => ?_)
        · have hs := ww_F hs hc4
          exact hL70 σ x1 x2 x3 x4 x6 x5 _ _ ls hW (lv_sub hl [1, 2, 3, 4, 5, 7] rfl) hs
        · have hs := ww_T hs hc4
          refine lv_aload hx hb dX1_harm_47 (lv_at hl 0 rfl) ?_
          refine gf_X1_409 hx hb hts hown hW (pr_dy hc3 rfl rfl) dX1_harm_49 ?_
          refine lv_iload_n hx hb dX1_harm_52 rfl (lv_at hl 3 rfl) ?_
          refine lv_iload_n hx hb dX1_harm_53 rfl (lv_at hl 4 rfl) ?_
          obtain ⟨v7, hc5, hs⟩ := ww_bnd hs
          refine ww_ci (va_runS (As := [.int (gF_ σ 83 1 (gP_ σ 73 (2 + x6.toNatClampNeg) 0)), .int x2, .int x3]) (rest := [.int x5]) ⟨hx, hb, hml, hown, hts⟩ (c_X1_in g hgm l L σ (gF_ σ 83 1 (gP_ σ 73 (2 + x6.toNatClampNeg) 0)) x2 x3 _ hc5) (va_cwS 3 hts (lw_S q824 q825 q111 q826) rfl rfl rfl hd_X1_in.2 ⟨(Nat.le_of_ble_eq_true rfl), (Nat.le_of_ble_eq_true rfl)⟩) (ww_preS hW) rfl rfl hl.1 rfl (lv_room (Nat.le_of_ble_eq_true rfl)) dX1_harm_54 ⟨Nat.le_of_ble_eq_true rfl, Nat.le_of_ble_eq_true rfl⟩) hW (fun H locs hW => ?_)
          refine lv_if_eq (tgt := 70) hx hb dX1_harm_57 (by decide) (fun hc8 => ?_) (fun hc8 => ?_)
          · have hs := ww_T hs hc8
            exact hL70 σ x1 x2 x3 x4 x6 x5 _ _ ls hW (lv_sub hl [1, 2, 3, 4, 5, 7] rfl) hs
          · have hs := ww_F hs hc8
            refine lv_aload hx hb dX1_harm_60 (lv_at hl 0 rfl) ?_
            refine lv_iload hx hb dX1_harm_62 (lv_at hl 5 rfl) ?_
            obtain ⟨v11, hc9, hs⟩ := ww_bnd hs
            refine ww_ci (va_runV (As := [.int x4]) (rest := [.int x5]) ⟨hx, hb, hml, hown, hts⟩ (c_X17_known g hgm l L σ (gP_ σ 73 (2 + x6.toNatClampNeg) 0) x4 _ hc9) (cwV 1 hts (lw_V q1396 q1397 q1398 q147 q1399) rfl rfl rfl hd_X17_known ⟨(Nat.le_of_ble_eq_true rfl), (Nat.le_of_ble_eq_true rfl)⟩) (ww_preV hW (pr_dy hc3 rfl rfl) (obv_0 rfl) rfl) rfl rfl hl.1 rfl (lv_room (Nat.le_of_ble_eq_true rfl)) dX1_harm_64 ⟨Nat.le_of_ble_eq_true rfl, Nat.le_of_ble_eq_true rfl⟩) hW (fun H locs hW => ?_)
            refine lv_goto (tgt := 71) hx hb dX1_harm_67 (by decide) ?_
            exact hL71 σ x1 x2 x3 x4 x6 x5 v11 _ _ ls hW (lv_sub hl [1, 2, 3, 4, 5, 7] rfl) hs
  refine lv_iload_n hx hb dX1_harm_0 rfl (lv_at hl 1 rfl) ?_
  obtain ⟨o14, hc12, hs⟩ := ww_bnd hs
  rcases o14 with k15 | v16
  · have hs := ww_sL hs
    have hs := ww_S hs
    subst hs
    exact wx_prop (vx_runS (As := [.int a1]) (rest := []) ⟨hx, hb, hml, hown, hts⟩ (c_X1_family g hgm l L σ a1 hst _ hc12) (va_cwS 1 hts (lw_S q896 q897 q111 q898) rfl rfl rfl hd_X1_family.2 ⟨(Nat.le_of_ble_eq_true rfl), (Nat.le_of_ble_eq_true rfl)⟩) (ww_preS hW) rfl rfl hl.1 rfl (lv_room (Nat.le_of_ble_eq_true rfl)) dX1_harm_1 ⟨Nat.le_of_ble_eq_true rfl, Nat.le_of_ble_eq_true rfl⟩) no_v hW hlocks hout rfl rfl (Nat.le_of_ble_eq_true rfl) (Nat.le_of_ble_eq_true rfl)
  · have hs := ww_sR hs
    refine ww_xv0 (vx_runS (As := [.int a1]) (rest := []) ⟨hx, hb, hml, hown, hts⟩ (c_X1_family g hgm l L σ a1 hst _ hc12) (va_cwS 1 hts (lw_S q896 q897 q111 q898) rfl rfl rfl hd_X1_family.2 ⟨(Nat.le_of_ble_eq_true rfl), (Nat.le_of_ble_eq_true rfl)⟩) (ww_preS hW) rfl rfl hl.1 rfl (lv_room (Nat.le_of_ble_eq_true rfl)) dX1_harm_1 ⟨Nat.zero_le _, Nat.zero_le _⟩) hW (fun H locs hW => ?_)
    refine lv_iconst (v := 0) hx hb dX1_harm_4 (by decide) ?_
    refine lv_istore (lv' := [(5, .int (0 : Int32)), (0, .ref (L 1 0)), (1, .int a1), (2, .int a2), (3, .int a3), (4, .int a4)]) hx hb dX1_harm_5 hl (by decide) rfl (fun ls hl => ?_)
    refine lv_iconst (v := 0) hx hb dX1_harm_7 (by decide) ?_
    refine lv_istore (lv' := [(6, .int (0 : Int32)), (5, .int (0 : Int32)), (0, .ref (L 1 0)), (1, .int a1), (2, .int a2), (3, .int a3), (4, .int a4)]) hx hb dX1_harm_8 hl (by decide) rfl (fun ls hl => ?_)
    exact hL10 fu_ σ a1 a2 a3 a4 (0 : Int32) (0 : Int32) _ _ ls hW (lv_sub hl [2, 3, 4, 5, 6, 1, 0] rfl) hs
set_option maxHeartbeats 4000000 in
theorem c_X1_claim (g : wg_T) (hgm : gm g = true) (l : Launch) (L : ly_T) (σ : st_T) (a1 : Int32) (a2 : Int32) (hst : l.stackTraces = false) (o_ : Nat ⊕ Int32) (hs : m_X1_claim σ a1 a2 = some o_) : XI g l yX1_claim (ws_ yX1_claim cX1_claim 4 (some .int)) 9 171 (xc o_) (xs o_) [.ref (L 1 0), .int a1, .int a2] L σ o_ σ := by
  refine xbody.met (by decide) (Nat.le_of_ble_eq_true rfl) ?_
  intro p e s m args below meth c ls hx hb hr hml hlocks hts hown hnm hout hW hl
  have hown : s.vm.findClass RX1 = some m.cls := hown
  have hl : lv_has ls 4 [(0, .ref (L 1 0)), (1, .int a1), (2, .int a2)] := hl
  unfold m_X1_claim at hs
  refine lv_aload_n hx hb dX1_claim_0 rfl (lv_at hl 0 rfl) ?_
  refine lv_iload_n hx hb dX1_claim_1 rfl (lv_at hl 1 rfl) ?_
  obtain ⟨o3, hc1, hs⟩ := ww_bnd hs
  rcases o3 with k4 | v5
  · have hs := ww_sL hs
    have hs := ww_S hs
    subst hs
    exact wx_prop (vx_runV (As := [.int a1]) (rest := []) ⟨hx, hb, hml, hown, hts⟩ (c_X1_claimAt g hgm l L σ a1 hst _ hc1) (cwV 1 hts (lw_V q1382 q1384 qs33 q111 q1385) rfl rfl rfl hd_X1_claimAt ⟨(Nat.le_of_ble_eq_true rfl), (Nat.le_of_ble_eq_true rfl)⟩) (ww_preV hW (pr_st (hW.rd hgm) (Nat.le_of_ble_eq_true rfl)) (obv_0 rfl) rfl) rfl rfl hl.1 rfl (lv_room (Nat.le_of_ble_eq_true rfl)) dX1_claim_2 ⟨Nat.le_of_ble_eq_true rfl, Nat.le_of_ble_eq_true rfl⟩) no_r hW hlocks hout rfl rfl (Nat.le_of_ble_eq_true rfl) (Nat.le_of_ble_eq_true rfl)
  · have hs := ww_sR hs
    refine ww_xr0 (vx_runV (As := [.int a1]) (rest := []) ⟨hx, hb, hml, hown, hts⟩ (c_X1_claimAt g hgm l L σ a1 hst _ hc1) (cwV 1 hts (lw_V q1382 q1384 qs33 q111 q1385) rfl rfl rfl hd_X1_claimAt ⟨(Nat.le_of_ble_eq_true rfl), (Nat.le_of_ble_eq_true rfl)⟩) (ww_preV hW (pr_st (hW.rd hgm) (Nat.le_of_ble_eq_true rfl)) (obv_0 rfl) rfl) rfl rfl hl.1 rfl (lv_room (Nat.le_of_ble_eq_true rfl)) dX1_claim_2 ⟨Nat.zero_le _, Nat.zero_le _⟩) hW (fun H locs hW => ?_)
    refine lv_astore_n (lv' := [(3, .ref (L 83 v5)), (0, .ref (L 1 0)), (1, .int a1), (2, .int a2)]) hx hb dX1_claim_5 rfl hl (by decide) rfl (fun ls hl => ?_)
    refine lv_iload_n hx hb dX1_claim_6 rfl (lv_at hl 3 rfl) ?_
    by_cases hc6 : a2 = (0 : Int32)
    · have hs := ww_T hs hc6
      refine lv_tableIn (off := 33) (tgt := 40) hx hb dX1_claim_7 (by rw [hc6]; decide) (by rw [hc6]; decide) (by rw [hc6]; rfl) (by decide) ?_
      refine lv_aload_n hx hb dX1_claim_40 rfl (lv_at hl 0 rfl) ?_
      obtain ⟨hc7, hs⟩ := ww_chk hs
      refine gf_X1_407 hx hb hts hown hW (pr_dy hc7 rfl rfl) dX1_claim_41 ?_
      have hs := ww_S hs
      exact wx_i hx hb hr hlocks hW hs rfl (Nat.zero_le _) (Nat.zero_le _) dX1_claim_44
    · have hs := ww_F hs hc6
      by_cases hc8 : a2 = (1 : Int32)
      · have hs := ww_T hs hc8
        refine lv_tableIn (off := 38) (tgt := 45) hx hb dX1_claim_7 (by rw [hc8]; decide) (by rw [hc8]; decide) (by rw [hc8]; rfl) (by decide) ?_
        refine lv_aload_n hx hb dX1_claim_45 rfl (lv_at hl 0 rfl) ?_
        obtain ⟨hc9, hs⟩ := ww_chk hs
        refine gf_X1_409 hx hb hts hown hW (pr_dy hc9 rfl rfl) dX1_claim_46 ?_
        have hs := ww_S hs
        exact wx_i hx hb hr hlocks hW hs rfl (Nat.zero_le _) (Nat.zero_le _) dX1_claim_49
      · have hs := ww_F hs hc8
        by_cases hc10 : a2 = (2 : Int32)
        · have hs := ww_T hs hc10
          refine lv_tableIn (off := 43) (tgt := 50) hx hb dX1_claim_7 (by rw [hc10]; decide) (by rw [hc10]; decide) (by rw [hc10]; rfl) (by decide) ?_
          refine lv_aload_n hx hb dX1_claim_50 rfl (lv_at hl 0 rfl) ?_
          obtain ⟨v13, hc11, hs⟩ := ww_bnd hs
          obtain ⟨hc14, hs⟩ := ww_chk hs
          refine ww_ci (va_runV (As := []) (rest := []) ⟨hx, hb, hml, hown, hts⟩ (c_X17_latest g hgm l L σ v5 _ hc11) (cwV 0 hts (lw_V q1417 q1418 q1419 q147 q1420) rfl rfl rfl hd_X17_latest ⟨(Nat.le_of_ble_eq_true rfl), (Nat.le_of_ble_eq_true rfl)⟩) (ww_preV hW (pr_dy hc14 rfl rfl) (obv_0 rfl) rfl) rfl rfl hl.1 rfl (lv_room (Nat.le_of_ble_eq_true rfl)) dX1_claim_51 ⟨Nat.le_of_ble_eq_true rfl, Nat.le_of_ble_eq_true rfl⟩) hW (fun H locs hW => ?_)
          have hs := ww_S hs
          exact wx_i hx hb hr hlocks hW hs rfl (Nat.zero_le _) (Nat.zero_le _) dX1_claim_54
        · have hs := ww_F hs hc10
          by_cases hc15 : a2 = (3 : Int32)
          · have hs := ww_T hs hc15
            refine lv_tableIn (off := 48) (tgt := 55) hx hb dX1_claim_7 (by rw [hc15]; decide) (by rw [hc15]; decide) (by rw [hc15]; rfl) (by decide) ?_
            refine lv_aload_n hx hb dX1_claim_55 rfl (lv_at hl 0 rfl) ?_
            obtain ⟨hc16, hs⟩ := ww_chk hs
            refine gf_X1_416 hx hb hts hown hW (pr_dy hc16 rfl rfl) dX1_claim_56 ?_
            have hs := ww_S hs
            exact wx_i hx hb hr hlocks hW hs rfl (Nat.zero_le _) (Nat.zero_le _) dX1_claim_59
          · have hs := ww_F hs hc15
            by_cases hc17 : a2 = (4 : Int32)
            · have hs := ww_T hs hc17
              refine lv_tableIn (off := 53) (tgt := 60) hx hb dX1_claim_7 (by rw [hc17]; decide) (by rw [hc17]; decide) (by rw [hc17]; rfl) (by decide) ?_
              refine lv_aload_n hx hb dX1_claim_60 rfl (lv_at hl 0 rfl) ?_
              obtain ⟨hc18, hs⟩ := ww_chk hs
              refine gf_X1_400 hx hb hts hown hW (pr_dy hc18 rfl rfl) (hW.fl hgm (pr_dy hc18 rfl rfl) 2 (by decide) rfl (by decide)) dX1_claim_61 ?_
              obtain ⟨hc19, hs⟩ := ww_chk hs
              refine ww_ci (va_runV (As := []) (rest := []) ⟨hx, hb, hml, hown, hts⟩ (c_AL_size g hgm l L σ 78 v5 79 rfl rfl (pr_dy hc19 rfl rfl)) (cwV 0 hts (lw_V q514 q515 q516 q117 q517) rfl rfl rfl hd_J2_size ⟨(Nat.le_of_ble_eq_true rfl), (Nat.le_of_ble_eq_true rfl)⟩) (ww_preV hW (pr_dy hc19 rfl rfl) (obv_0 rfl) rfl) rfl rfl hl.1 rfl (lv_room (Nat.le_of_ble_eq_true rfl)) dX1_claim_64 ⟨Nat.zero_le _, Nat.zero_le _⟩) hW (fun H locs hW => ?_)
              have hs := ww_S hs
              exact wx_i hx hb hr hlocks hW hs rfl (Nat.zero_le _) (Nat.zero_le _) dX1_claim_67
            · have hs := ww_F hs hc17
              refine lv_tableOut (tgt := 68) hx hb dX1_claim_7 (by have z0 := lv_neT (k := (0 : Int32)) (a := 0) hc6 rfl; have z1 := lv_neT (k := (1 : Int32)) (a := 1) hc8 rfl; have z2 := lv_neT (k := (2 : Int32)) (a := 2) hc10 rfl; have z3 := lv_neT (k := (3 : Int32)) (a := 3) hc15 rfl; have z4 := lv_neT (k := (4 : Int32)) (a := 4) hc17 rfl; omega) (by decide) ?_
              have hs := ww_S hs
              exact th_X1_1 hx hb hlocks hown hts hml hl.1 hout hst hW hs rfl dX1_claim_68 dX1_claim_71 dX1_claim_72 dX1_claim_75 (Nat.le_of_ble_eq_true rfl) (Nat.le_of_ble_eq_true rfl) rfl rfl
set_option maxHeartbeats 4000000 in
theorem c_X1_rivers (g : wg_T) (hgm : gm g = true) (l : Launch) (L : ly_T) (σ : st_T)  (σ_ : st_T) (hs : m_X1_rivers σ = some σ_) : CV g l yX1_rivers (ws_ yX1_rivers cX1_rivers 2 none) 3 81 0 0 [.ref (L 1 0)] L σ σ_ := by
  refine wbody.met (by decide) (Nat.le_of_ble_eq_true rfl) ?_
  intro p e s m args below meth c ls hx hb hr hml hlocks hts hown hnm hW hl
  have hown : s.vm.findClass RX1 = some m.cls := hown
  have hl : lv_has ls 2 [(0, .ref (L 1 0))] := hl
  unfold m_X1_rivers at hs
  have hL2 : ∀ (n2 : Nat), ∀ (σ : st_T) (x1 : Int32) (H : Heap) (locs : List Loc) (ls : Array Slot), wv g L σ s H locs → lv_has ls 2 [(0, .ref (L 1 0)), (1, .int x1)] → (m_X1_rivers_L2 n2) σ x1 = some σ_ → W p l e (wrm 3 81 0 0) s m args below meth c H locs 0 0 (MQ below (wQv g L σ_) args s 0 0 (fun q => gz g ≤ q)) (F0 m 2 ls []) := by
    intro n2
    induction n2 with
    | zero => intro σ x1 H locs ls hW hl hs; rw [m_X1_rivers_L2] at hs; cases hs
    | succ n2 ih2 =>
      have hL29 : ∀ (σ : st_T) (x1 : Int32) (t1 : Int32) (t2 : Int32) (H : Heap) (locs : List Loc) (ls : Array Slot), wv g L σ s H locs → lv_has ls 2 [(0, .ref (L 1 0)), (1, .int x1)] → (m_X1_rivers_L29 (m_X1_rivers_L2 n2)) σ x1 t1 t2 = some σ_ → W p l e (wrm 3 81 0 0) s m args below meth c H locs 0 0 (MQ below (wQv g L σ_) args s 0 0 (fun q => gz g ≤ q)) (F0 m 29 ls [.int t2, .int t1, .ref (L 39 0)]) := by
        intro σ x1 t1 t2 H locs ls hW hl hs
        unfold m_X1_rivers_L29 at hs
        obtain ⟨hc1, hs⟩ := ww_chk hs
        obtain ⟨σ2, e3, hs⟩ := ww_let hs
        refine ww_zast hx hb hW 39 0 (pr_st (hW.rd hgm) (Nat.le_of_ble_eq_true rfl)) rfl hc1 dX1_rivers_29 (fun H locs hW => ?_)
        have hW : wv g L σ2 s H locs := by rw [e3]; exact hW
        refine lv_iinc (v := (x1 + (1 : Int32))) (lv' := [(1, .int (x1 + (1 : Int32))), (0, .ref (L 1 0))]) hx hb dX1_rivers_30 hl (k := 1) rfl rfl (by decide) rfl (fun ls hl => ?_)
        refine lv_goto (tgt := 2) hx hb dX1_rivers_33 (by decide) ?_
        exact ih2 σ2 (x1 + (1 : Int32)) _ _ ls hW (lv_sub hl [1, 0] rfl) hs
      intro σ x1 H locs ls hW hl hs
      rw [m_X1_rivers_L2] at hs
      refine lv_iload_n hx hb dX1_rivers_2 rfl (lv_at hl 1 rfl) ?_
      refine lv_bipush (v := 64) hx hb dX1_rivers_3 (by decide) ?_
      refine lv_icmp_ge (tgt := 36) hx hb dX1_rivers_5 (by decide) (fun hc4 => ?_) (fun hc4 => ?_)
      · have hs := ww_T hs hc4
        have hs := ww_S hs
        exact we_v hx hb hr hlocks hW hs (Nat.le_of_ble_eq_true rfl) (Nat.le_of_ble_eq_true rfl) dX1_rivers_36
      · have hs := ww_F hs hc4
        refine lv_aload_n hx hb dX1_rivers_8 rfl (lv_at hl 0 rfl) ?_
        refine gf_X1_143 hx hb hts hown hW (pr_st (hW.rd hgm) (Nat.le_of_ble_eq_true rfl)) (hW.fl hgm (pr_st (hW.rd hgm) (Nat.le_of_ble_eq_true rfl)) 29 (by decide) rfl (by decide)) dX1_rivers_9 ?_
        refine lv_iload_n hx hb dX1_rivers_12 rfl (lv_at hl 1 rfl) ?_
        refine lv_aload_n hx hb dX1_rivers_13 rfl (lv_at hl 0 rfl) ?_
        refine gf_X1_44 hx hb hts hown hW (pr_st (hW.rd hgm) (Nat.le_of_ble_eq_true rfl)) (hW.fl hgm (pr_st (hW.rd hgm) (Nat.le_of_ble_eq_true rfl)) 1 (by decide) rfl (by decide)) dX1_rivers_14 ?_
        refine lv_iload_n hx hb dX1_rivers_17 rfl (lv_at hl 1 rfl) ?_
        obtain ⟨v7, hc5, hs⟩ := ww_bnd hs
        refine ww_ci (va_runV (As := [.int x1]) (rest := [.int x1, .ref (L 39 0)]) ⟨hx, hb, hml, hown, hts⟩ (c_X2_isOpen g hgm l L σ 0 x1 _ hc5) (cwV 1 hts (lw_V q1246 q548 q549 q112 q550) rfl rfl rfl hd_X2_isOpen ⟨(Nat.le_of_ble_eq_true rfl), (Nat.le_of_ble_eq_true rfl)⟩) (ww_preV hW (pr_st (hW.rd hgm) (Nat.le_of_ble_eq_true rfl)) (obv_0 rfl) rfl) rfl rfl hl.1 rfl (lv_room (Nat.le_of_ble_eq_true rfl)) dX1_rivers_18 ⟨Nat.le_of_ble_eq_true rfl, Nat.le_of_ble_eq_true rfl⟩) hW (fun H locs hW => ?_)
        refine lv_if_ne (tgt := 28) hx hb dX1_rivers_21 (by decide) (fun hc8 => ?_) (fun hc8 => ?_)
        · have hs := ww_F hs hc8
          refine lv_iconst (v := 0) hx hb dX1_rivers_28 (by decide) ?_
          exact hL29 σ x1 x1 (0 : Int32) _ _ ls hW (lv_sub hl [0, 1] rfl) hs
        · have hs := ww_T hs hc8
          refine lv_iconst (v := 1) hx hb dX1_rivers_24 (by decide) ?_
          refine lv_goto (tgt := 29) hx hb dX1_rivers_25 (by decide) ?_
          exact hL29 σ x1 x1 (1 : Int32) _ _ ls hW (lv_sub hl [0, 1] rfl) hs
  refine lv_iconst (v := 0) hx hb dX1_rivers_0 (by decide) ?_
  refine lv_istore_n (lv' := [(1, .int (0 : Int32)), (0, .ref (L 1 0))]) hx hb dX1_rivers_1 rfl hl (by decide) rfl (fun ls hl => ?_)
  exact hL2 fu_ σ (0 : Int32) _ _ ls hW (lv_sub hl [1, 0] rfl) hs
set_option maxHeartbeats 4000000 in
theorem c_X1_wind (g : wg_T) (hgm : gm g = true) (l : Launch) (L : ly_T) (σ : st_T) (a1 : Int32) (a2 : Int32) (hst : l.stackTraces = false) (o_ : Nat ⊕ Int32) (σ_ : st_T) (hs : m_X1_wind σ a1 a2 = some (o_, σ_)) : XI g l yX1_wind (ws_ yX1_wind cX1_wind 5 (some .int)) 10 180 (xc o_) (xs o_) [.ref (L 1 0), .int a1, .int a2] L σ o_ σ_ := by
  refine xbody.met (by decide) (Nat.le_of_ble_eq_true rfl) ?_
  intro p e s m args below meth c ls hx hb hr hml hlocks hts hown hnm hout hW hl
  have hown : s.vm.findClass RX1 = some m.cls := hown
  have hl : lv_has ls 5 [(0, .ref (L 1 0)), (1, .int a1), (2, .int a2)] := hl
  unfold m_X1_wind at hs
  have hL19 : ∀ (σ : st_T) (x1 : Int32) (x2 : Int32) (t0 : Int32) (H : Heap) (locs : List Loc) (ls : Array Slot), wv g L σ s H locs → lv_has ls 5 [(0, .ref (L 1 0)), (1, .int x1), (2, .int x2)] → m_X1_wind_L19 σ x1 x2 t0 = some (o_, σ_) → W p l e (wrm 10 180 (xc o_) (xs o_)) s m args below meth c H locs 0 0 (vx_MQ below (wXi g L o_ σ_) (wX g o_ σ_ L) args s (xc o_) (xs o_) (fun q => gz g ≤ q)) (F0 m 19 ls [.int t0]) := by
    have hL54 : ∀ (σ : st_T) (x1 : Int32) (x2 : Int32) (x3 : Int32) (t0 : Int32) (H : Heap) (locs : List Loc) (ls : Array Slot), wv g L σ s H locs → lv_has ls 5 [(0, .ref (L 1 0)), (1, .int x1), (2, .int x2), (3, .int x3)] → m_X1_wind_L54 σ x1 x2 x3 t0 = some (o_, σ_) → W p l e (wrm 10 180 (xc o_) (xs o_)) s m args below meth c H locs 0 0 (vx_MQ below (wXi g L o_ σ_) (wX g o_ σ_ L) args s (xc o_) (xs o_) (fun q => gz g ≤ q)) (F0 m 54 ls [.int t0]) := by
      intro σ x1 x2 x3 t0 H locs ls hW hl hs
      unfold m_X1_wind_L54 at hs
      refine lv_istore (lv' := [(4, .int t0), (0, .ref (L 1 0)), (1, .int x1), (2, .int x2), (3, .int x3)]) hx hb dX1_wind_54 hl (by decide) rfl (fun ls hl => ?_)
      refine lv_aload_n hx hb dX1_wind_56 rfl (lv_at hl 1 rfl) ?_
      refine gf_X1_106 hx hb hts hown hW (pr_st (hW.rd hgm) (Nat.le_of_ble_eq_true rfl)) (hW.fl hgm (pr_st (hW.rd hgm) (Nat.le_of_ble_eq_true rfl)) 17 (by decide) rfl (by decide)) dX1_wind_57 ?_
      refine lv_iload_n hx hb dX1_wind_60 rfl (lv_at hl 4 rfl) ?_
      refine lv_iload_n hx hb dX1_wind_61 rfl (lv_at hl 2 rfl) ?_
      obtain ⟨hc1, hs⟩ := ww_chk hs
      obtain ⟨σ2, e3, hs⟩ := ww_let hs
      refine ww_iast hx hb hW 27 0 (pr_st (hW.rd hgm) (Nat.le_of_ble_eq_true rfl)) rfl hc1 dX1_wind_62 (fun H locs hW => ?_)
      have hW : wv g L σ2 s H locs := by rw [e3]; exact hW
      refine lv_aload_n hx hb dX1_wind_63 rfl (lv_at hl 1 rfl) ?_
      refine gf_X1_109 hx hb hts hown hW (pr_st (hW.rd hgm) (Nat.le_of_ble_eq_true rfl)) (hW.fl hgm (pr_st (hW.rd hgm) (Nat.le_of_ble_eq_true rfl)) 18 (by decide) rfl (by decide)) dX1_wind_64 ?_
      refine lv_iload_n hx hb dX1_wind_67 rfl (lv_at hl 4 rfl) ?_
      refine lv_iload_n hx hb dX1_wind_68 rfl (lv_at hl 3 rfl) ?_
      obtain ⟨σ4, e5, hs⟩ := ww_let hs
      refine ww_iast hx hb hW 28 0 (pr_st (hW.rd hgm) (Nat.le_of_ble_eq_true rfl)) rfl hc1 dX1_wind_69 (fun H locs hW => ?_)
      have hW : wv g L σ4 s H locs := by rw [e5]; exact hW
      refine lv_aload_n hx hb dX1_wind_70 rfl (lv_at hl 1 rfl) ?_
      refine lv_aload_n hx hb dX1_wind_71 rfl (lv_at hl 1 rfl) ?_
      refine gf_X1_462 hx hb hts hown hW (pr_st (hW.rd hgm) (Nat.le_of_ble_eq_true rfl)) dX1_wind_72 ?_
      refine lv_iload_n hx hb dX1_wind_75 rfl (lv_at hl 4 rfl) ?_
      refine lv_iconst (v := 1) hx hb dX1_wind_76 (by decide) ?_
      refine lv_iadd hx hb dX1_wind_77 ?_
      refine va_mmax hx hb (hml.trans hl.1.symm) hown (hts _ q603) (hts _ q604) (hts _ q134) (hts _ q605) (Nat.le_of_ble_eq_true rfl) (Nat.le_of_ble_eq_true rfl) (Nat.le_of_ble_eq_true rfl) (Nat.le_of_ble_eq_true rfl) dX1_wind_78 ?_
      obtain ⟨σ6, e7, hs⟩ := ww_let hs
      refine pf_X1_462 hx hb hts hown hW (pr_st (hW.rd hgm) (Nat.le_of_ble_eq_true rfl)) dX1_wind_81 (fun H locs hW => ?_)
      have hW : wv g L σ6 s H locs := by rw [e7]; exact hW
      refine lv_iload hx hb dX1_wind_84 (lv_at hl 0 rfl) ?_
      have hs := ww_S hs
      exact wx_i hx hb hr hlocks hW (congrArg Prod.fst hs) (congrArg Prod.snd hs) (Nat.zero_le _) (Nat.zero_le _) dX1_wind_86
    intro σ x1 x2 t0 H locs ls hW hl hs
    unfold m_X1_wind_L19 at hs
    obtain ⟨o10, hc8, hs⟩ := ww_bnd hs
    rcases o10 with k11 | v12
    · have hs := ww_sL hs
      have hs := ww_S hs
      have e1 : o_ = .inl k11 := congrArg Prod.fst hs
      have e2 : σ_ = σ := congrArg Prod.snd hs
      subst e1
      exact wx_prop (vx_runS (As := [.int t0]) (rest := []) ⟨hx, hb, hml, hown, hts⟩ (c_X1_wrong g hgm l L σ t0 hst _ hc8) (va_cwS 1 hts (lw_S q848 q849 q111 q850) rfl rfl rfl hd_X1_wrong.2 ⟨(Nat.le_of_ble_eq_true rfl), (Nat.le_of_ble_eq_true rfl)⟩) (ww_preS hW) rfl rfl hl.1 rfl (lv_room (Nat.le_of_ble_eq_true rfl)) dX1_wind_19 ⟨Nat.le_of_ble_eq_true rfl, Nat.le_of_ble_eq_true rfl⟩) no_v hW hlocks hout rfl e2 (Nat.le_of_ble_eq_true rfl) (Nat.le_of_ble_eq_true rfl)
    · have hs := ww_sR hs
      refine ww_xv0 (vx_runS (As := [.int t0]) (rest := []) ⟨hx, hb, hml, hown, hts⟩ (c_X1_wrong g hgm l L σ t0 hst _ hc8) (va_cwS 1 hts (lw_S q848 q849 q111 q850) rfl rfl rfl hd_X1_wrong.2 ⟨(Nat.le_of_ble_eq_true rfl), (Nat.le_of_ble_eq_true rfl)⟩) (ww_preS hW) rfl rfl hl.1 rfl (lv_room (Nat.le_of_ble_eq_true rfl)) dX1_wind_19 ⟨Nat.zero_le _, Nat.zero_le _⟩) hW (fun H locs hW => ?_)
      refine lv_aload_n hx hb dX1_wind_22 rfl (lv_at hl 0 rfl) ?_
      refine lv_iload_n hx hb dX1_wind_23 rfl (lv_at hl 1 rfl) ?_
      obtain ⟨v15, hc13, hs⟩ := ww_bnd hs
      refine ww_ci (va_runV (As := [.int x1]) (rest := []) ⟨hx, hb, hml, hown, hts⟩ (c_X1_windOf g hgm l L σ x1 _ hc13) (cwV 1 hts (lw_V q1561 q1563 qs37 q111 q1564) rfl rfl rfl hd_X1_windOf ⟨(Nat.le_of_ble_eq_true rfl), (Nat.le_of_ble_eq_true rfl)⟩) (ww_preV hW (pr_st (hW.rd hgm) (Nat.le_of_ble_eq_true rfl)) (obv_0 rfl) rfl) rfl rfl hl.1 rfl (lv_room (Nat.le_of_ble_eq_true rfl)) dX1_wind_24 ⟨Nat.le_of_ble_eq_true rfl, Nat.le_of_ble_eq_true rfl⟩) hW (fun H locs hW => ?_)
      refine lv_istore_n (lv' := [(3, .int v15), (0, .ref (L 1 0)), (1, .int x1), (2, .int x2)]) hx hb dX1_wind_27 rfl hl (by decide) rfl (fun ls hl => ?_)
      refine lv_iload_n hx hb dX1_wind_28 rfl (lv_at hl 0 rfl) ?_
      refine lv_bipush (v := 60) hx hb dX1_wind_29 (by decide) ?_
      refine lv_icmp_ne (tgt := 36) hx hb dX1_wind_31 (by decide) (fun hc16 => ?_) (fun hc16 => ?_)
      · have hs := ww_F hs hc16
        refine lv_iload_n hx hb dX1_wind_36 rfl (lv_at hl 0 rfl) ?_
        refine lv_aload_n hx hb dX1_wind_37 rfl (lv_at hl 1 rfl) ?_
        refine gf_X1_462 hx hb hts hown hW (pr_st (hW.rd hgm) (Nat.le_of_ble_eq_true rfl)) dX1_wind_38 ?_
        refine lv_icmp_ge (tgt := 53) hx hb dX1_wind_41 (by decide) (fun hc17 => ?_) (fun hc17 => ?_)
        · have hs := ww_T hs hc17
          refine lv_iconst (v := 0) hx hb dX1_wind_53 (by decide) ?_
          exact hL54 σ x1 x2 v15 (0 : Int32) _ _ ls hW (lv_sub hl [1, 2, 3, 0] rfl) hs
        · have hs := ww_F hs hc17
          refine lv_aload_n hx hb dX1_wind_44 rfl (lv_at hl 1 rfl) ?_
          refine gf_X1_109 hx hb hts hown hW (pr_st (hW.rd hgm) (Nat.le_of_ble_eq_true rfl)) (hW.fl hgm (pr_st (hW.rd hgm) (Nat.le_of_ble_eq_true rfl)) 18 (by decide) rfl (by decide)) dX1_wind_45 ?_
          refine lv_iload_n hx hb dX1_wind_48 rfl (lv_at hl 0 rfl) ?_
          obtain ⟨hc18, hs⟩ := ww_chk hs
          refine ww_iald hx hb hW 28 0 (pr_st (hW.rd hgm) (Nat.le_of_ble_eq_true rfl)) rfl hc18 dX1_wind_49 ?_
          refine lv_goto (tgt := 54) hx hb dX1_wind_50 (by decide) ?_
          exact hL54 σ x1 x2 v15 (gA_ σ 28 0 v15.toNatClampNeg) _ _ ls hW (lv_sub hl [1, 2, 3, 0] rfl) hs
      · have hs := ww_T hs hc16
        refine lv_iconst (v := (-1)) hx hb dX1_wind_34 (by decide) ?_
        have hs := ww_S hs
        exact wx_i hx hb hr hlocks hW (congrArg Prod.fst hs) (congrArg Prod.snd hs) (Nat.zero_le _) (Nat.zero_le _) dX1_wind_35
  refine lv_iload_n hx hb dX1_wind_0 rfl (lv_at hl 1 rfl) ?_
  obtain ⟨o21, hc19, hs⟩ := ww_bnd hs
  rcases o21 with k22 | v23
  · have hs := ww_sL hs
    have hs := ww_S hs
    have e1 : o_ = .inl k22 := congrArg Prod.fst hs
    have e2 : σ_ = σ := congrArg Prod.snd hs
    subst e1
    exact wx_prop (vx_runS (As := [.int a1]) (rest := []) ⟨hx, hb, hml, hown, hts⟩ (c_X1_hour g hgm l L σ a1 hst _ hc19) (va_cwS 1 hts (lw_S q1493 q1494 q111 q1495) rfl rfl rfl hd_X1_hour.2 ⟨(Nat.le_of_ble_eq_true rfl), (Nat.le_of_ble_eq_true rfl)⟩) (ww_preS hW) rfl rfl hl.1 rfl (lv_room (Nat.le_of_ble_eq_true rfl)) dX1_wind_1 ⟨Nat.le_of_ble_eq_true rfl, Nat.le_of_ble_eq_true rfl⟩) no_v hW hlocks hout rfl e2 (Nat.le_of_ble_eq_true rfl) (Nat.le_of_ble_eq_true rfl)
  · have hs := ww_sR hs
    refine ww_xv0 (vx_runS (As := [.int a1]) (rest := []) ⟨hx, hb, hml, hown, hts⟩ (c_X1_hour g hgm l L σ a1 hst _ hc19) (va_cwS 1 hts (lw_S q1493 q1494 q111 q1495) rfl rfl rfl hd_X1_hour.2 ⟨(Nat.le_of_ble_eq_true rfl), (Nat.le_of_ble_eq_true rfl)⟩) (ww_preS hW) rfl rfl hl.1 rfl (lv_room (Nat.le_of_ble_eq_true rfl)) dX1_wind_1 ⟨Nat.zero_le _, Nat.zero_le _⟩) hW (fun H locs hW => ?_)
    refine lv_iload_n hx hb dX1_wind_4 rfl (lv_at hl 2 rfl) ?_
    refine lv_iconst (v := 0) hx hb dX1_wind_5 (by decide) ?_
    refine lv_bipush (v := 12) hx hb dX1_wind_6 (by decide) ?_
    obtain ⟨v26, hc24, hs⟩ := ww_bnd hs
    refine ww_ci (va_runS (As := [.int a2, .int (0 : Int32), .int (12 : Int32)]) (rest := []) ⟨hx, hb, hml, hown, hts⟩ (c_X1_in g hgm l L σ a2 (0 : Int32) (12 : Int32) _ hc24) (va_cwS 3 hts (lw_S q824 q825 q111 q826) rfl rfl rfl hd_X1_in.2 ⟨(Nat.le_of_ble_eq_true rfl), (Nat.le_of_ble_eq_true rfl)⟩) (ww_preS hW) rfl rfl hl.1 rfl (lv_room (Nat.le_of_ble_eq_true rfl)) dX1_wind_8 ⟨Nat.le_of_ble_eq_true rfl, Nat.le_of_ble_eq_true rfl⟩) hW (fun H locs hW => ?_)
    refine lv_if_ne (tgt := 18) hx hb dX1_wind_11 (by decide) (fun hc27 => ?_) (fun hc27 => ?_)
    · have hs := ww_F hs hc27
      refine lv_iconst (v := 0) hx hb dX1_wind_18 (by decide) ?_
      exact hL19 σ a1 a2 (0 : Int32) _ _ ls hW (lv_sub hl [0, 1, 2] rfl) hs
    · have hs := ww_T hs hc27
      refine lv_iconst (v := 1) hx hb dX1_wind_14 (by decide) ?_
      refine lv_goto (tgt := 19) hx hb dX1_wind_15 (by decide) ?_
      exact hL19 σ a1 a2 (1 : Int32) _ _ ls hW (lv_sub hl [0, 1, 2] rfl) hs
set_option maxHeartbeats 4000000 in
theorem c_X1_called (g : wg_T) (hgm : gm g = true) (l : Launch) (L : ly_T) (σ : st_T) (a1 : Int32) (a2 : Int32) (hst : l.stackTraces = false) (o_ : Nat ⊕ Int32) (σ_ : st_T) (hs : m_X1_called σ a1 a2 = some (o_, σ_)) : XI g l yX1_called (ws_ yX1_called cX1_called 7 (some .int)) 9 171 (xc o_) (xs o_) [.ref (L 1 0), .int a1, .int a2] L σ o_ σ_ := by
  refine xbody.met (by decide) (Nat.le_of_ble_eq_true rfl) ?_
  intro p e s m args below meth c ls hx hb hr hml hlocks hts hown hnm hout hW hl
  have hown : s.vm.findClass RX1 = some m.cls := hown
  have hl : lv_has ls 7 [(0, .ref (L 1 0)), (1, .int a1), (2, .int a2)] := hl
  unfold m_X1_called at hs
  have hL9 : ∀ (n9 : Nat), ∀ (σ : st_T) (x2 : Int32) (ix3 : Nat) (x4 : Int32) (H : Heap) (locs : List Loc) (ls : Array Slot), wv g L σ s H locs → lv_has ls 7 [(0, .ref (L 1 0)), (2, .int x2), (3, .ref (L 86 ix3)), (4, .int x4)] → (m_X1_called_L9 n9) σ x2 ix3 x4 = some (o_, σ_) → W p l e (wrm 9 171 (xc o_) (xs o_)) s m args below meth c H locs 0 0 (vx_MQ below (wXi g L o_ σ_) (wX g o_ σ_ L) args s (xc o_) (xs o_) (fun q => gz g ≤ q)) (F0 m 9 ls []) := by
    intro n9
    induction n9 with
    | zero => intro σ x2 ix3 x4 H locs ls hW hl hs; rw [m_X1_called_L9] at hs; cases hs
    | succ n9 ih9 =>
      have hL35 : ∀ (n35 : Nat), ∀ (σ : st_T) (x2 : Int32) (ix3 : Nat) (x4 : Int32) (H : Heap) (locs : List Loc) (ls : Array Slot), wv g L σ s H locs → lv_has ls 7 [(0, .ref (L 1 0)), (2, .int x2), (3, .ref (L 86 ix3)), (4, .int x4)] → (m_X1_called_L35 n35) σ x2 ix3 x4 = some (o_, σ_) → W p l e (wrm 9 171 (xc o_) (xs o_)) s m args below meth c H locs 0 0 (vx_MQ below (wXi g L o_ σ_) (wX g o_ σ_ L) args s (xc o_) (xs o_) (fun q => gz g ≤ q)) (F0 m 35 ls []) := by
        intro n35
        induction n35 with
        | zero => intro σ x2 ix3 x4 H locs ls hW hl hs; rw [m_X1_called_L35] at hs; cases hs
        | succ n35 ih35 =>
          have hL128 : ∀ (n128 : Nat), ∀ (σ : st_T) (x2 : Int32) (x4 : Int32) (H : Heap) (locs : List Loc) (ls : Array Slot), wv g L σ s H locs → lv_has ls 7 [(0, .ref (L 1 0)), (2, .int x2), (4, .int x4)] → (m_X1_called_L128 n128) σ x2 x4 = some (o_, σ_) → W p l e (wrm 9 171 (xc o_) (xs o_)) s m args below meth c H locs 0 0 (vx_MQ below (wXi g L o_ σ_) (wX g o_ σ_ L) args s (xc o_) (xs o_) (fun q => gz g ≤ q)) (F0 m 128 ls []) := by
            intro n128
            induction n128 with
            | zero => intro σ x2 x4 H locs ls hW hl hs; rw [m_X1_called_L128] at hs; cases hs
            | succ n128 ih128 =>
              have hL141 : ∀ (n141 : Nat), ∀ (σ : st_T) (x2 : Int32) (x4 : Int32) (x5 : Int32) (x6 : Int32) (H : Heap) (locs : List Loc) (ls : Array Slot), wv g L σ s H locs → lv_has ls 7 [(0, .ref (L 1 0)), (2, .int x2), (4, .int x4), (5, .int x5), (6, .int x6)] → (m_X1_called_L141 (m_X1_called_L128 n128) n141) σ x2 x4 x5 x6 = some (o_, σ_) → W p l e (wrm 9 171 (xc o_) (xs o_)) s m args below meth c H locs 0 0 (vx_MQ below (wXi g L o_ σ_) (wX g o_ σ_ L) args s (xc o_) (xs o_) (fun q => gz g ≤ q)) (F0 m 141 ls []) := by
                intro n141
                induction n141 with
                | zero => intro σ x2 x4 x5 x6 H locs ls hW hl hs; rw [m_X1_called_L141] at hs; cases hs
                | succ n141 ih141 =>
                  have hL227 : ∀ (σ : st_T) (x2 : Int32) (x4 : Int32) (H : Heap) (locs : List Loc) (ls : Array Slot), wv g L σ s H locs → lv_has ls 7 [(0, .ref (L 1 0)), (2, .int x2), (4, .int x4)] → (m_X1_called_L227 (m_X1_called_L128 n128)) σ x2 x4 = some (o_, σ_) → W p l e (wrm 9 171 (xc o_) (xs o_)) s m args below meth c H locs 0 0 (vx_MQ below (wXi g L o_ σ_) (wX g o_ σ_ L) args s (xc o_) (xs o_) (fun q => gz g ≤ q)) (F0 m 227 ls []) := by
                    intro σ x2 x4 H locs ls hW hl hs
                    unfold m_X1_called_L227 at hs
                    refine lv_iinc (v := (x4 + (1 : Int32))) (lv' := [(4, .int (x4 + (1 : Int32))), (0, .ref (L 1 0)), (2, .int x2)]) hx hb dX1_called_227 hl (k := 2) rfl rfl (by decide) rfl (fun ls hl => ?_)
                    refine lv_goto (tgt := 128) hx hb dX1_called_230 (by decide) ?_
                    exact ih128 σ x2 (x4 + (1 : Int32)) _ _ ls hW (lv_sub hl [1, 2, 0] rfl) hs
                  have hL196 : ∀ (σ : st_T) (x2 : Int32) (x4 : Int32) (x6 : Int32) (t0 : Int32) (t1 : Int32) (H : Heap) (locs : List Loc) (ls : Array Slot), wv g L σ s H locs → lv_has ls 7 [(0, .ref (L 1 0)), (2, .int x2), (4, .int x4), (6, .int x6)] → (m_X1_called_L196 (m_X1_called_L141 (m_X1_called_L128 n128) n141)) σ x2 x4 x6 t0 t1 = some (o_, σ_) → W p l e (wrm 9 171 (xc o_) (xs o_)) s m args below meth c H locs 0 0 (vx_MQ below (wXi g L o_ σ_) (wX g o_ σ_ L) args s (xc o_) (xs o_) (fun q => gz g ≤ q)) (F0 m 196 ls [.int t1, .int t0]) := by
                    intro σ x2 x4 x6 t0 t1 H locs ls hW hl hs
                    unfold m_X1_called_L196 at hs
                    refine lv_iadd hx hb dX1_called_196 ?_
                    refine lv_istore (lv' := [(5, .int (t0 + t1)), (0, .ref (L 1 0)), (2, .int x2), (4, .int x4), (6, .int x6)]) hx hb dX1_called_197 hl (by decide) rfl (fun ls hl => ?_)
                    refine lv_iinc (v := (x6 + (1 : Int32))) (lv' := [(6, .int (x6 + (1 : Int32))), (5, .int (t0 + t1)), (0, .ref (L 1 0)), (2, .int x2), (4, .int x4)]) hx hb dX1_called_199 hl (k := 4) rfl rfl (by decide) rfl (fun ls hl => ?_)
                    refine lv_goto (tgt := 141) hx hb dX1_called_202 (by decide) ?_
                    exact ih141 σ x2 x4 (t0 + t1) (x6 + (1 : Int32)) _ _ ls hW (lv_sub hl [2, 3, 4, 1, 0] rfl) hs
                  have hL195 : ∀ (σ : st_T) (x2 : Int32) (x4 : Int32) (x6 : Int32) (t0 : Int32) (H : Heap) (locs : List Loc) (ls : Array Slot), wv g L σ s H locs → lv_has ls 7 [(0, .ref (L 1 0)), (2, .int x2), (4, .int x4), (6, .int x6)] → (m_X1_called_L195 (m_X1_called_L196 (m_X1_called_L141 (m_X1_called_L128 n128) n141))) σ x2 x4 x6 t0 = some (o_, σ_) → W p l e (wrm 9 171 (xc o_) (xs o_)) s m args below meth c H locs 0 0 (vx_MQ below (wXi g L o_ σ_) (wX g o_ σ_ L) args s (xc o_) (xs o_) (fun q => gz g ≤ q)) (F0 m 195 ls [.int t0]) := by
                    intro σ x2 x4 x6 t0 H locs ls hW hl hs
                    unfold m_X1_called_L195 at hs
                    refine lv_iconst (v := 0) hx hb dX1_called_195 (by decide) ?_
                    exact hL196 σ x2 x4 x6 t0 (0 : Int32) _ _ ls hW (lv_sub hl [0, 1, 2, 3] rfl) hs
                  have hL191 : ∀ (σ : st_T) (x2 : Int32) (x4 : Int32) (x6 : Int32) (t0 : Int32) (H : Heap) (locs : List Loc) (ls : Array Slot), wv g L σ s H locs → lv_has ls 7 [(0, .ref (L 1 0)), (2, .int x2), (4, .int x4), (6, .int x6)] → (m_X1_called_L191 (m_X1_called_L196 (m_X1_called_L141 (m_X1_called_L128 n128) n141))) σ x2 x4 x6 t0 = some (o_, σ_) → W p l e (wrm 9 171 (xc o_) (xs o_)) s m args below meth c H locs 0 0 (vx_MQ below (wXi g L o_ σ_) (wX g o_ σ_ L) args s (xc o_) (xs o_) (fun q => gz g ≤ q)) (F0 m 191 ls [.int t0]) := by
                    intro σ x2 x4 x6 t0 H locs ls hW hl hs
                    unfold m_X1_called_L191 at hs
                    refine lv_iconst (v := 1) hx hb dX1_called_191 (by decide) ?_
                    refine lv_goto (tgt := 196) hx hb dX1_called_192 (by decide) ?_
                    exact hL196 σ x2 x4 x6 t0 (1 : Int32) _ _ ls hW (lv_sub hl [0, 1, 2, 3] rfl) hs
                  intro σ x2 x4 x5 x6 H locs ls hW hl hs
                  rw [m_X1_called_L141] at hs
                  refine lv_iload hx hb dX1_called_141 (lv_at hl 4 rfl) ?_
                  refine lv_bipush (v := 10) hx hb dX1_called_143 (by decide) ?_
                  refine lv_icmp_ge (tgt := 205) hx hb dX1_called_145 (by decide) (fun hc1 => ?_) (fun hc1 => ?_)
                  · have hs := ww_T hs hc1
                    refine lv_iload hx hb dX1_called_205 (lv_at hl 3 rfl) ?_
                    refine lv_iload_n hx hb dX1_called_207 rfl (lv_at hl 1 rfl) ?_
                    refine lv_icmp_ne (tgt := 227) hx hb dX1_called_208 (by decide) (fun hc2 => ?_) (fun hc2 => ?_)
                    · have hs := ww_F hs hc2
                      exact hL227 σ x2 x4 _ _ ls hW (lv_sub hl [0, 1, 2] rfl) hs
                    · have hs := ww_T hs hc2
                      refine lv_aload_n hx hb dX1_called_211 rfl (lv_at hl 0 rfl) ?_
                      refine gf_X1_118 hx hb hts hown hW (pr_st (hW.rd hgm) (Nat.le_of_ble_eq_true rfl)) (hW.fl hgm (pr_st (hW.rd hgm) (Nat.le_of_ble_eq_true rfl)) 21 (by decide) rfl (by decide)) dX1_called_212 ?_
                      refine lv_iload hx hb dX1_called_215 (lv_at hl 2 rfl) ?_
                      obtain ⟨hc3, hs⟩ := ww_chk hs
                      refine ww_iald hx hb hW 31 0 (pr_st (hW.rd hgm) (Nat.le_of_ble_eq_true rfl)) rfl hc3 dX1_called_217 ?_
                      refine lv_ldcw hx hb hown (hts _ q567) dX1_called_218 ?_
                      refine lv_icmp_ge (tgt := 227) hx hb dX1_called_221 (by decide) (fun hc4 => ?_) (fun hc4 => ?_)
                      · have hs := ww_T hs hc4
                        exact hL227 σ x2 x4 _ _ ls hW (lv_sub hl [0, 1, 2] rfl) hs
                      · have hs := ww_F hs hc4
                        refine lv_iload hx hb dX1_called_224 (lv_at hl 2 rfl) ?_
                        have hs := ww_S hs
                        exact wx_i hx hb hr hlocks hW (congrArg Prod.fst hs) (congrArg Prod.snd hs) (Nat.zero_le _) (Nat.zero_le _) dX1_called_226
                  · have hs := ww_F hs hc1
                    refine lv_iload hx hb dX1_called_148 (lv_at hl 3 rfl) ?_
                    refine lv_aload_n hx hb dX1_called_150 rfl (lv_at hl 0 rfl) ?_
                    refine gf_X1_118 hx hb hts hown hW (pr_st (hW.rd hgm) (Nat.le_of_ble_eq_true rfl)) (hW.fl hgm (pr_st (hW.rd hgm) (Nat.le_of_ble_eq_true rfl)) 21 (by decide) rfl (by decide)) dX1_called_151 ?_
                    refine lv_iload hx hb dX1_called_154 (lv_at hl 4 rfl) ?_
                    obtain ⟨hc5, hs⟩ := ww_chk hs
                    refine ww_iald hx hb hW 31 0 (pr_st (hW.rd hgm) (Nat.le_of_ble_eq_true rfl)) rfl hc5 dX1_called_156 ?_
                    refine lv_aload_n hx hb dX1_called_157 rfl (lv_at hl 0 rfl) ?_
                    refine gf_X1_118 hx hb hts hown hW (pr_st (hW.rd hgm) (Nat.le_of_ble_eq_true rfl)) (hW.fl hgm (pr_st (hW.rd hgm) (Nat.le_of_ble_eq_true rfl)) 21 (by decide) rfl (by decide)) dX1_called_158 ?_
                    refine lv_iload hx hb dX1_called_161 (lv_at hl 2 rfl) ?_
                    obtain ⟨hc6, hs⟩ := ww_chk hs
                    refine ww_iald hx hb hW 31 0 (pr_st (hW.rd hgm) (Nat.le_of_ble_eq_true rfl)) rfl hc6 dX1_called_163 ?_
                    refine lv_icmp_lt (tgt := 191) hx hb dX1_called_164 (by decide) (fun hc7 => ?_) (fun hc7 => ?_)
                    · have hs := ww_T hs hc7
                      exact hL191 σ x2 x4 x6 x5 _ _ ls hW (lv_sub hl [0, 1, 2, 4] rfl) hs
                    · have hs := ww_F hs hc7
                      refine lv_aload_n hx hb dX1_called_167 rfl (lv_at hl 0 rfl) ?_
                      refine gf_X1_118 hx hb hts hown hW (pr_st (hW.rd hgm) (Nat.le_of_ble_eq_true rfl)) (hW.fl hgm (pr_st (hW.rd hgm) (Nat.le_of_ble_eq_true rfl)) 21 (by decide) rfl (by decide)) dX1_called_168 ?_
                      refine lv_iload hx hb dX1_called_171 (lv_at hl 4 rfl) ?_
                      refine ww_iald hx hb hW 31 0 (pr_st (hW.rd hgm) (Nat.le_of_ble_eq_true rfl)) rfl hc5 dX1_called_173 ?_
                      refine lv_aload_n hx hb dX1_called_174 rfl (lv_at hl 0 rfl) ?_
                      refine gf_X1_118 hx hb hts hown hW (pr_st (hW.rd hgm) (Nat.le_of_ble_eq_true rfl)) (hW.fl hgm (pr_st (hW.rd hgm) (Nat.le_of_ble_eq_true rfl)) 21 (by decide) rfl (by decide)) dX1_called_175 ?_
                      refine lv_iload hx hb dX1_called_178 (lv_at hl 2 rfl) ?_
                      refine ww_iald hx hb hW 31 0 (pr_st (hW.rd hgm) (Nat.le_of_ble_eq_true rfl)) rfl hc6 dX1_called_180 ?_
                      refine lv_icmp_ne (tgt := 195) hx hb dX1_called_181 (by decide) (fun hc8 => ?_) (fun hc8 => ?_)
                      · have hs := ww_F hs hc8
                        exact hL195 σ x2 x4 x6 x5 _ _ ls hW (lv_sub hl [0, 1, 2, 4] rfl) hs
                      · have hs := ww_T hs hc8
                        refine lv_iload hx hb dX1_called_184 (lv_at hl 4 rfl) ?_
                        refine lv_iload hx hb dX1_called_186 (lv_at hl 2 rfl) ?_
                        refine lv_icmp_ge (tgt := 195) hx hb dX1_called_188 (by decide) (fun hc9 => ?_) (fun hc9 => ?_)
                        · have hs := ww_T hs hc9
                          exact hL195 σ x2 x4 x6 x5 _ _ ls hW (lv_sub hl [0, 1, 2, 4] rfl) hs
                        · have hs := ww_F hs hc9
                          exact hL191 σ x2 x4 x6 x5 _ _ ls hW (lv_sub hl [0, 1, 2, 4] rfl) hs
              intro σ x2 x4 H locs ls hW hl hs
              rw [m_X1_called_L128] at hs
              refine lv_iload hx hb dX1_called_128 (lv_at hl 2 rfl) ?_
              refine lv_bipush (v := 10) hx hb dX1_called_130 (by decide) ?_
              refine lv_icmp_ge (tgt := 233) hx hb dX1_called_132 (by decide) (fun hc10 => ?_) (fun hc10 => ?_)
              · have hs := ww_T hs hc10
                refine lv_iconst (v := (-1)) hx hb dX1_called_233 (by decide) ?_
                have hs := ww_S hs
                exact wx_i hx hb hr hlocks hW (congrArg Prod.fst hs) (congrArg Prod.snd hs) (Nat.zero_le _) (Nat.zero_le _) dX1_called_234
              · have hs := ww_F hs hc10
                refine lv_iconst (v := 0) hx hb dX1_called_135 (by decide) ?_
                refine lv_istore (lv' := [(5, .int (0 : Int32)), (0, .ref (L 1 0)), (2, .int x2), (4, .int x4)]) hx hb dX1_called_136 hl (by decide) rfl (fun ls hl => ?_)
                refine lv_iconst (v := 0) hx hb dX1_called_138 (by decide) ?_
                refine lv_istore (lv' := [(6, .int (0 : Int32)), (5, .int (0 : Int32)), (0, .ref (L 1 0)), (2, .int x2), (4, .int x4)]) hx hb dX1_called_139 hl (by decide) rfl (fun ls hl => ?_)
                exact hL141 fu_ σ x2 x4 (0 : Int32) (0 : Int32) _ _ ls hW (lv_sub hl [2, 3, 4, 1, 0] rfl) hs
          have hL119 : ∀ (σ : st_T) (x2 : Int32) (ix3 : Nat) (x4 : Int32) (H : Heap) (locs : List Loc) (ls : Array Slot), wv g L σ s H locs → lv_has ls 7 [(0, .ref (L 1 0)), (2, .int x2), (3, .ref (L 86 ix3)), (4, .int x4)] → (m_X1_called_L119 (m_X1_called_L35 n35)) σ x2 ix3 x4 = some (o_, σ_) → W p l e (wrm 9 171 (xc o_) (xs o_)) s m args below meth c H locs 0 0 (vx_MQ below (wXi g L o_ σ_) (wX g o_ σ_ L) args s (xc o_) (xs o_) (fun q => gz g ≤ q)) (F0 m 119 ls []) := by
            intro σ x2 ix3 x4 H locs ls hW hl hs
            unfold m_X1_called_L119 at hs
            refine lv_iinc (v := (x4 + (1 : Int32))) (lv' := [(4, .int (x4 + (1 : Int32))), (0, .ref (L 1 0)), (2, .int x2), (3, .ref (L 86 ix3))]) hx hb dX1_called_119 hl (k := 3) rfl rfl (by decide) rfl (fun ls hl => ?_)
            refine lv_goto (tgt := 35) hx hb dX1_called_122 (by decide) ?_
            exact ih35 σ x2 ix3 (x4 + (1 : Int32)) _ _ ls hW (lv_sub hl [1, 2, 3, 0] rfl) hs
          intro σ x2 ix3 x4 H locs ls hW hl hs
          rw [m_X1_called_L35] at hs
          refine lv_iload hx hb dX1_called_35 (lv_at hl 3 rfl) ?_
          refine lv_bipush (v := 64) hx hb dX1_called_37 (by decide) ?_
          refine lv_icmp_ge (tgt := 125) hx hb dX1_called_39 (by decide) (fun hc11 => ?_) (fun hc11 => ?_)
          · have hs := ww_T hs hc11
            refine lv_iconst (v := 0) hx hb dX1_called_125 (by decide) ?_
            refine lv_istore (lv' := [(4, .int (0 : Int32)), (0, .ref (L 1 0)), (2, .int x2), (3, .ref (L 86 ix3))]) hx hb dX1_called_126 hl (by decide) rfl (fun ls hl => ?_)
            exact hL128 fu_ σ x2 (0 : Int32) _ _ ls hW (lv_sub hl [1, 2, 0] rfl) hs
          · have hs := ww_F hs hc11
            refine lv_aload_n hx hb dX1_called_42 rfl (lv_at hl 0 rfl) ?_
            refine gf_X1_44 hx hb hts hown hW (pr_st (hW.rd hgm) (Nat.le_of_ble_eq_true rfl)) (hW.fl hgm (pr_st (hW.rd hgm) (Nat.le_of_ble_eq_true rfl)) 1 (by decide) rfl (by decide)) dX1_called_43 ?_
            refine gf_X1_183 hx hb hts hown hW (pr_st (hW.rd hgm) (Nat.le_of_ble_eq_true rfl)) (hW.fl hgm (pr_st (hW.rd hgm) (Nat.le_of_ble_eq_true rfl)) 0 (by decide) rfl (by decide)) dX1_called_46 ?_
            refine lv_iload hx hb dX1_called_49 (lv_at hl 3 rfl) ?_
            obtain ⟨hc12, hs⟩ := ww_chk hs
            refine ww_iald hx hb hW 51 0 (pr_st (hW.rd hgm) (Nat.le_of_ble_eq_true rfl)) rfl hc12 dX1_called_51 ?_
            refine lv_iconst (v := 2) hx hb dX1_called_52 (by decide) ?_
            refine lv_icmp_eq (tgt := 59) hx hb dX1_called_53 (by decide) (fun hc13 => ?_) (fun hc13 => ?_)
            · have hs := ww_T hs hc13
              refine lv_aload_n hx hb dX1_called_59 rfl (lv_at hl 0 rfl) ?_
              refine gf_X1_44 hx hb hts hown hW (pr_st (hW.rd hgm) (Nat.le_of_ble_eq_true rfl)) (hW.fl hgm (pr_st (hW.rd hgm) (Nat.le_of_ble_eq_true rfl)) 1 (by decide) rfl (by decide)) dX1_called_60 ?_
              refine gf_X1_222 hx hb hts hown hW (pr_st (hW.rd hgm) (Nat.le_of_ble_eq_true rfl)) (hW.fl hgm (pr_st (hW.rd hgm) (Nat.le_of_ble_eq_true rfl)) 1 (by decide) rfl (by decide)) dX1_called_63 ?_
              refine lv_iload hx hb dX1_called_66 (lv_at hl 3 rfl) ?_
              refine ww_iald hx hb hW 52 0 (pr_st (hW.rd hgm) (Nat.le_of_ble_eq_true rfl)) rfl hc12 dX1_called_68 ?_
              refine lv_istore (lv' := [(5, .int (gA_ σ 52 0 x4.toNatClampNeg)), (0, .ref (L 1 0)), (2, .int x2), (3, .ref (L 86 ix3)), (4, .int x4)]) hx hb dX1_called_69 hl (by decide) rfl (fun ls hl => ?_)
              refine lv_iload hx hb dX1_called_71 (lv_at hl 4 rfl) ?_
              refine lv_aload_n hx hb dX1_called_73 rfl (lv_at hl 3 rfl) ?_
              obtain ⟨hc14, hs⟩ := ww_chk hs
              refine gf_X1_479 hx hb hts hown hW (pr_dy hc14 rfl rfl) (hW.fl hgm (pr_dy hc14 rfl rfl) 0 (by decide) rfl (by decide)) dX1_called_74 ?_
              obtain ⟨hc15, hs⟩ := ww_chk hs
              refine gf_X1_483 hx hb hts hown hW (pr_dy hc15 rfl rfl) dX1_called_77 ?_
              obtain ⟨v18, hc16, hs⟩ := ww_bnd hs
              refine ww_ci (va_runS (As := [.int x4, .int (gF_ σ 85 0 (gP_ σ 86 0 ix3))]) (rest := []) ⟨hx, hb, hml, hown, hts⟩ (c_X1_apart g hgm l L σ x4 (gF_ σ 85 0 (gP_ σ 86 0 ix3)) _ hc16) (va_cwS 2 hts (lw_S q1620 q1621 q111 q1622) rfl rfl rfl hd_X1_apart.2 ⟨(Nat.le_of_ble_eq_true rfl), (Nat.le_of_ble_eq_true rfl)⟩) (ww_preS hW) rfl rfl hl.1 rfl (lv_room (Nat.le_of_ble_eq_true rfl)) dX1_called_80 ⟨Nat.le_of_ble_eq_true rfl, Nat.le_of_ble_eq_true rfl⟩) hW (fun H locs hW => ?_)
              refine lv_iload hx hb dX1_called_83 (lv_at hl 4 rfl) ?_
              refine lv_aload_n hx hb dX1_called_85 rfl (lv_at hl 3 rfl) ?_
              refine gf_X1_479 hx hb hts hown hW (pr_dy hc14 rfl rfl) (hW.fl hgm (pr_dy hc14 rfl rfl) 0 (by decide) rfl (by decide)) dX1_called_86 ?_
              refine gf_X1_486 hx hb hts hown hW (pr_dy hc15 rfl rfl) dX1_called_89 ?_
              obtain ⟨v21, hc19, hs⟩ := ww_bnd hs
              refine ww_ci (va_runS (As := [.int x4, .int (gF_ σ 85 1 (gP_ σ 86 0 ix3))]) (rest := [.int v18]) ⟨hx, hb, hml, hown, hts⟩ (c_X1_apart g hgm l L σ x4 (gF_ σ 85 1 (gP_ σ 86 0 ix3)) _ hc19) (va_cwS 2 hts (lw_S q1620 q1621 q111 q1622) rfl rfl rfl hd_X1_apart.2 ⟨(Nat.le_of_ble_eq_true rfl), (Nat.le_of_ble_eq_true rfl)⟩) (ww_preS hW) rfl rfl hl.1 rfl (lv_room (Nat.le_of_ble_eq_true rfl)) dX1_called_92 ⟨Nat.le_of_ble_eq_true rfl, Nat.le_of_ble_eq_true rfl⟩) hW (fun H locs hW => ?_)
              refine va_mmin hx hb (hml.trans hl.1.symm) hown (hts _ q573) (hts _ q505) (hts _ q134) (hts _ q506) (Nat.le_of_ble_eq_true rfl) (Nat.le_of_ble_eq_true rfl) (Nat.le_of_ble_eq_true rfl) (Nat.le_of_ble_eq_true rfl) dX1_called_95 ?_
              refine lv_istore (lv' := [(6, .int (imin v18 v21)), (5, .int (gA_ σ 52 0 x4.toNatClampNeg)), (0, .ref (L 1 0)), (2, .int x2), (3, .ref (L 86 ix3)), (4, .int x4)]) hx hb dX1_called_98 hl (by decide) rfl (fun ls hl => ?_)
              refine lv_aload_n hx hb dX1_called_100 rfl (lv_at hl 2 rfl) ?_
              refine gf_X1_118 hx hb hts hown hW (pr_st (hW.rd hgm) (Nat.le_of_ble_eq_true rfl)) (hW.fl hgm (pr_st (hW.rd hgm) (Nat.le_of_ble_eq_true rfl)) 21 (by decide) rfl (by decide)) dX1_called_101 ?_
              refine lv_iload hx hb dX1_called_104 (lv_at hl 1 rfl) ?_
              refine lv_aload_n hx hb dX1_called_106 rfl (lv_at hl 2 rfl) ?_
              refine gf_X1_118 hx hb hts hown hW (pr_st (hW.rd hgm) (Nat.le_of_ble_eq_true rfl)) (hW.fl hgm (pr_st (hW.rd hgm) (Nat.le_of_ble_eq_true rfl)) 21 (by decide) rfl (by decide)) dX1_called_107 ?_
              refine lv_iload hx hb dX1_called_110 (lv_at hl 1 rfl) ?_
              obtain ⟨hc22, hs⟩ := ww_chk hs
              refine ww_iald hx hb hW 31 0 (pr_st (hW.rd hgm) (Nat.le_of_ble_eq_true rfl)) rfl hc22 dX1_called_112 ?_
              refine lv_iload hx hb dX1_called_113 (lv_at hl 0 rfl) ?_
              refine va_mmin hx hb (hml.trans hl.1.symm) hown (hts _ q573) (hts _ q505) (hts _ q134) (hts _ q506) (Nat.le_of_ble_eq_true rfl) (Nat.le_of_ble_eq_true rfl) (Nat.le_of_ble_eq_true rfl) (Nat.le_of_ble_eq_true rfl) dX1_called_115 ?_
              obtain ⟨σ23, e24, hs⟩ := ww_let hs
              refine ww_iast hx hb hW 31 0 (pr_st (hW.rd hgm) (Nat.le_of_ble_eq_true rfl)) rfl hc22 dX1_called_118 (fun H locs hW => ?_)
              have hW : wv g L σ23 s H locs := by rw [e24]; exact hW
              have hc25 : ix3 < gN_ σ23 86 := by rw [e24]; exact hc14
              have hc26 : (gP_ σ 86 0 ix3) < gN_ σ23 85 := by rw [e24]; exact hc15
              exact hL119 σ23 x2 ix3 x4 _ _ ls hW (lv_sub hl [2, 3, 4, 5] rfl) hs
            · have hs := ww_F hs hc13
              refine lv_goto (tgt := 119) hx hb dX1_called_56 (by decide) ?_
              exact hL119 σ x2 ix3 x4 _ _ ls hW (lv_sub hl [0, 1, 2, 3] rfl) hs
      intro σ x2 ix3 x4 H locs ls hW hl hs
      rw [m_X1_called_L9] at hs
      refine lv_iload hx hb dX1_called_9 (lv_at hl 3 rfl) ?_
      refine lv_bipush (v := 10) hx hb dX1_called_11 (by decide) ?_
      refine lv_icmp_ge (tgt := 32) hx hb dX1_called_13 (by decide) (fun hc27 => ?_) (fun hc27 => ?_)
      · have hs := ww_T hs hc27
        refine lv_iconst (v := 0) hx hb dX1_called_32 (by decide) ?_
        refine lv_istore (lv' := [(4, .int (0 : Int32)), (0, .ref (L 1 0)), (2, .int x2), (3, .ref (L 86 ix3))]) hx hb dX1_called_33 hl (by decide) rfl (fun ls hl => ?_)
        exact hL35 fu_ σ x2 ix3 (0 : Int32) _ _ ls hW (lv_sub hl [1, 2, 3, 0] rfl) hs
      · have hs := ww_F hs hc27
        refine lv_aload_n hx hb dX1_called_16 rfl (lv_at hl 0 rfl) ?_
        refine gf_X1_118 hx hb hts hown hW (pr_st (hW.rd hgm) (Nat.le_of_ble_eq_true rfl)) (hW.fl hgm (pr_st (hW.rd hgm) (Nat.le_of_ble_eq_true rfl)) 21 (by decide) rfl (by decide)) dX1_called_17 ?_
        refine lv_iload hx hb dX1_called_20 (lv_at hl 3 rfl) ?_
        refine lv_ldcw hx hb hown (hts _ q567) dX1_called_22 ?_
        obtain ⟨hc28, hs⟩ := ww_chk hs
        obtain ⟨σ29, e30, hs⟩ := ww_let hs
        refine ww_iast hx hb hW 31 0 (pr_st (hW.rd hgm) (Nat.le_of_ble_eq_true rfl)) rfl hc28 dX1_called_25 (fun H locs hW => ?_)
        have hW : wv g L σ29 s H locs := by rw [e30]; exact hW
        refine lv_iinc (v := (x4 + (1 : Int32))) (lv' := [(4, .int (x4 + (1 : Int32))), (0, .ref (L 1 0)), (2, .int x2), (3, .ref (L 86 ix3))]) hx hb dX1_called_26 hl (k := 3) rfl rfl (by decide) rfl (fun ls hl => ?_)
        refine lv_goto (tgt := 9) hx hb dX1_called_29 (by decide) ?_
        exact ih9 σ29 x2 ix3 (x4 + (1 : Int32)) _ _ ls hW (lv_sub hl [1, 2, 3, 0] rfl) hs
  refine lv_aload_n hx hb dX1_called_0 rfl (lv_at hl 0 rfl) ?_
  refine lv_iload_n hx hb dX1_called_1 rfl (lv_at hl 1 rfl) ?_
  obtain ⟨o33, hc31, hs⟩ := ww_bnd hs
  rcases o33 with k34 | v35
  · have hs := ww_sL hs
    have hs := ww_S hs
    have e1 : o_ = .inl k34 := congrArg Prod.fst hs
    have e2 : σ_ = σ := congrArg Prod.snd hs
    subst e1
    exact wx_prop (vx_runV (As := [.int a1]) (rest := []) ⟨hx, hb, hml, hown, hts⟩ (c_X1_tripAt g hgm l L σ a1 hst _ hc31) (cwV 1 hts (lw_V q1598 q1600 qs39 q111 q1601) rfl rfl rfl hd_X1_tripAt ⟨(Nat.le_of_ble_eq_true rfl), (Nat.le_of_ble_eq_true rfl)⟩) (ww_preV hW (pr_st (hW.rd hgm) (Nat.le_of_ble_eq_true rfl)) (obv_0 rfl) rfl) rfl rfl hl.1 rfl (lv_room (Nat.le_of_ble_eq_true rfl)) dX1_called_2 ⟨Nat.le_of_ble_eq_true rfl, Nat.le_of_ble_eq_true rfl⟩) no_r hW hlocks hout rfl e2 (Nat.le_of_ble_eq_true rfl) (Nat.le_of_ble_eq_true rfl)
  · have hs := ww_sR hs
    refine ww_xr0 (vx_runV (As := [.int a1]) (rest := []) ⟨hx, hb, hml, hown, hts⟩ (c_X1_tripAt g hgm l L σ a1 hst _ hc31) (cwV 1 hts (lw_V q1598 q1600 qs39 q111 q1601) rfl rfl rfl hd_X1_tripAt ⟨(Nat.le_of_ble_eq_true rfl), (Nat.le_of_ble_eq_true rfl)⟩) (ww_preV hW (pr_st (hW.rd hgm) (Nat.le_of_ble_eq_true rfl)) (obv_0 rfl) rfl) rfl rfl hl.1 rfl (lv_room (Nat.le_of_ble_eq_true rfl)) dX1_called_2 ⟨Nat.zero_le _, Nat.zero_le _⟩) hW (fun H locs hW => ?_)
    refine lv_astore_n (lv' := [(3, .ref (L 86 v35)), (0, .ref (L 1 0)), (1, .int a1), (2, .int a2)]) hx hb dX1_called_5 rfl hl (by decide) rfl (fun ls hl => ?_)
    refine lv_iconst (v := 0) hx hb dX1_called_6 (by decide) ?_
    refine lv_istore (lv' := [(4, .int (0 : Int32)), (3, .ref (L 86 v35)), (0, .ref (L 1 0)), (1, .int a1), (2, .int a2)]) hx hb dX1_called_7 hl (by decide) rfl (fun ls hl => ?_)
    exact hL9 fu_ σ a2 v35 (0 : Int32) _ _ ls hW (lv_sub hl [2, 4, 1, 0] rfl) hs
set_option maxHeartbeats 4000000 in
theorem c_X1_lease (g : wg_T) (hgm : gm g = true) (l : Launch) (L : ly_T) (σ : st_T) (a1 : Int32) (a2 : Int32) (hst : l.stackTraces = false) (o_ : Nat ⊕ Int32) (σ_ : st_T) (hs : m_X1_lease σ a1 a2 = some (o_, σ_)) : XI g l yX1_lease (ws_ yX1_lease cX1_lease 4 (some .boolean)) 9 160 (xc o_) (xs o_) [.ref (L 1 0), .int a1, .int a2] L σ o_ σ_ := by
  refine xbody.met (by decide) (Nat.le_of_ble_eq_true rfl) ?_
  intro p e s m args below meth c ls hx hb hr hml hlocks hts hown hnm hout hW hl
  have hown : s.vm.findClass RX1 = some m.cls := hown
  have hl : lv_has ls 4 [(0, .ref (L 1 0)), (1, .int a1), (2, .int a2)] := hl
  unfold m_X1_lease at hs
  refine lv_iload_n hx hb dX1_lease_0 rfl (lv_at hl 1 rfl) ?_
  obtain ⟨o3, hc1, hs⟩ := ww_bnd hs
  rcases o3 with k4 | v5
  · have hs := ww_sL hs
    have hs := ww_S hs
    have e1 : o_ = .inl k4 := congrArg Prod.fst hs
    have e2 : σ_ = σ := congrArg Prod.snd hs
    subst e1
    exact wx_prop (vx_runS (As := [.int a1]) (rest := []) ⟨hx, hb, hml, hown, hts⟩ (c_X1_cell g hgm l L σ a1 hst _ hc1) (va_cwS 1 hts (lw_S q821 q822 q111 q823) rfl rfl rfl hd_X1_cell.2 ⟨(Nat.le_of_ble_eq_true rfl), (Nat.le_of_ble_eq_true rfl)⟩) (ww_preS hW) rfl rfl hl.1 rfl (lv_room (Nat.le_of_ble_eq_true rfl)) dX1_lease_1 ⟨Nat.le_of_ble_eq_true rfl, Nat.le_of_ble_eq_true rfl⟩) no_v hW hlocks hout rfl e2 (Nat.le_of_ble_eq_true rfl) (Nat.le_of_ble_eq_true rfl)
  · have hs := ww_sR hs
    refine ww_xv0 (vx_runS (As := [.int a1]) (rest := []) ⟨hx, hb, hml, hown, hts⟩ (c_X1_cell g hgm l L σ a1 hst _ hc1) (va_cwS 1 hts (lw_S q821 q822 q111 q823) rfl rfl rfl hd_X1_cell.2 ⟨(Nat.le_of_ble_eq_true rfl), (Nat.le_of_ble_eq_true rfl)⟩) (ww_preS hW) rfl rfl hl.1 rfl (lv_room (Nat.le_of_ble_eq_true rfl)) dX1_lease_1 ⟨Nat.zero_le _, Nat.zero_le _⟩) hW (fun H locs hW => ?_)
    refine lv_aload_n hx hb dX1_lease_4 rfl (lv_at hl 0 rfl) ?_
    refine gf_X1_137 hx hb hts hown hW (pr_st (hW.rd hgm) (Nat.le_of_ble_eq_true rfl)) (hW.fl hgm (pr_st (hW.rd hgm) (Nat.le_of_ble_eq_true rfl)) 27 (by decide) rfl (by decide)) dX1_lease_5 ?_
    refine lv_iload_n hx hb dX1_lease_8 rfl (lv_at hl 1 rfl) ?_
    obtain ⟨hc6, hs⟩ := ww_chk hs
    refine ww_zald hx hb hW 37 0 (pr_st (hW.rd hgm) (Nat.le_of_ble_eq_true rfl)) rfl hc6 dX1_lease_9 ?_
    refine lv_istore_n (lv' := [(3, .int (gA_ σ 37 0 a1.toNatClampNeg)), (0, .ref (L 1 0)), (1, .int a1), (2, .int a2)]) hx hb dX1_lease_10 rfl hl (by decide) rfl (fun ls hl => ?_)
    refine lv_aload_n hx hb dX1_lease_11 rfl (lv_at hl 1 rfl) ?_
    refine gf_X1_137 hx hb hts hown hW (pr_st (hW.rd hgm) (Nat.le_of_ble_eq_true rfl)) (hW.fl hgm (pr_st (hW.rd hgm) (Nat.le_of_ble_eq_true rfl)) 27 (by decide) rfl (by decide)) dX1_lease_12 ?_
    refine lv_iload_n hx hb dX1_lease_15 rfl (lv_at hl 2 rfl) ?_
    refine lv_iload_n hx hb dX1_lease_16 rfl (lv_at hl 3 rfl) ?_
    obtain ⟨σ7, e8, hs⟩ := ww_let hs
    refine ww_zast hx hb hW 37 0 (pr_st (hW.rd hgm) (Nat.le_of_ble_eq_true rfl)) rfl hc6 dX1_lease_17 (fun H locs hW => ?_)
    have hW : wv g L σ7 s H locs := by rw [e8]; exact hW
    refine lv_iload_n hx hb dX1_lease_18 rfl (lv_at hl 0 rfl) ?_
    obtain ⟨hc9, hs⟩ := ww_chk hs
    have hs := ww_S hs
    exact wx_z hx hb hr hlocks hW hc9 (congrArg Prod.fst hs) (congrArg Prod.snd hs) (Nat.zero_le _) (Nat.zero_le _) dX1_lease_19
set_option maxHeartbeats 4000000 in
theorem c_X1_rent (g : wg_T) (hgm : gm g = true) (l : Launch) (L : ly_T) (σ : st_T) (a1 : Int32) (a2 : Int32) (hst : l.stackTraces = false) (o_ : Nat ⊕ Int32) (σ_ : st_T) (hs : m_X1_rent σ a1 a2 = some (o_, σ_)) : XI g l yX1_rent (ws_ yX1_rent cX1_rent 4 (some .int)) 9 160 (xc o_) (xs o_) [.ref (L 1 0), .int a1, .int a2] L σ o_ σ_ := by
  refine xbody.met (by decide) (Nat.le_of_ble_eq_true rfl) ?_
  intro p e s m args below meth c ls hx hb hr hml hlocks hts hown hnm hout hW hl
  have hown : s.vm.findClass RX1 = some m.cls := hown
  have hl : lv_has ls 4 [(0, .ref (L 1 0)), (1, .int a1), (2, .int a2)] := hl
  unfold m_X1_rent at hs
  have hL20 : ∀ (σ : st_T) (x1 : Int32) (x2 : Int32) (t0 : Int32) (H : Heap) (locs : List Loc) (ls : Array Slot), wv g L σ s H locs → lv_has ls 4 [(0, .ref (L 1 0)), (1, .int x1), (2, .int x2)] → m_X1_rent_L20 σ x1 x2 t0 = some (o_, σ_) → W p l e (wrm 9 160 (xc o_) (xs o_)) s m args below meth c H locs 0 0 (vx_MQ below (wXi g L o_ σ_) (wX g o_ σ_ L) args s (xc o_) (xs o_) (fun q => gz g ≤ q)) (F0 m 20 ls [.int t0]) := by
    intro σ x1 x2 t0 H locs ls hW hl hs
    unfold m_X1_rent_L20 at hs
    obtain ⟨o3, hc1, hs⟩ := ww_bnd hs
    rcases o3 with k4 | v5
    · have hs := ww_sL hs
      have hs := ww_S hs
      have e1 : o_ = .inl k4 := congrArg Prod.fst hs
      have e2 : σ_ = σ := congrArg Prod.snd hs
      subst e1
      exact wx_prop (vx_runS (As := [.int t0]) (rest := []) ⟨hx, hb, hml, hown, hts⟩ (c_X1_wrong g hgm l L σ t0 hst _ hc1) (va_cwS 1 hts (lw_S q848 q849 q111 q850) rfl rfl rfl hd_X1_wrong.2 ⟨(Nat.le_of_ble_eq_true rfl), (Nat.le_of_ble_eq_true rfl)⟩) (ww_preS hW) rfl rfl hl.1 rfl (lv_room (Nat.le_of_ble_eq_true rfl)) dX1_rent_20 ⟨Nat.le_of_ble_eq_true rfl, Nat.le_of_ble_eq_true rfl⟩) no_v hW hlocks hout rfl e2 (Nat.le_of_ble_eq_true rfl) (Nat.le_of_ble_eq_true rfl)
    · have hs := ww_sR hs
      refine ww_xv0 (vx_runS (As := [.int t0]) (rest := []) ⟨hx, hb, hml, hown, hts⟩ (c_X1_wrong g hgm l L σ t0 hst _ hc1) (va_cwS 1 hts (lw_S q848 q849 q111 q850) rfl rfl rfl hd_X1_wrong.2 ⟨(Nat.le_of_ble_eq_true rfl), (Nat.le_of_ble_eq_true rfl)⟩) (ww_preS hW) rfl rfl hl.1 rfl (lv_room (Nat.le_of_ble_eq_true rfl)) dX1_rent_20 ⟨Nat.zero_le _, Nat.zero_le _⟩) hW (fun H locs hW => ?_)
      refine lv_aload_n hx hb dX1_rent_23 rfl (lv_at hl 0 rfl) ?_
      refine gf_X1_103 hx hb hts hown hW (pr_st (hW.rd hgm) (Nat.le_of_ble_eq_true rfl)) (hW.fl hgm (pr_st (hW.rd hgm) (Nat.le_of_ble_eq_true rfl)) 16 (by decide) rfl (by decide)) dX1_rent_24 ?_
      refine lv_iload_n hx hb dX1_rent_27 rfl (lv_at hl 1 rfl) ?_
      obtain ⟨hc6, hs⟩ := ww_chk hs
      refine ww_iald hx hb hW 26 0 (pr_st (hW.rd hgm) (Nat.le_of_ble_eq_true rfl)) rfl hc6 dX1_rent_28 ?_
      refine lv_istore_n (lv' := [(3, .int (gA_ σ 26 0 x1.toNatClampNeg)), (0, .ref (L 1 0)), (1, .int x1), (2, .int x2)]) hx hb dX1_rent_29 rfl hl (by decide) rfl (fun ls hl => ?_)
      refine lv_aload_n hx hb dX1_rent_30 rfl (lv_at hl 1 rfl) ?_
      refine gf_X1_103 hx hb hts hown hW (pr_st (hW.rd hgm) (Nat.le_of_ble_eq_true rfl)) (hW.fl hgm (pr_st (hW.rd hgm) (Nat.le_of_ble_eq_true rfl)) 16 (by decide) rfl (by decide)) dX1_rent_31 ?_
      refine lv_iload_n hx hb dX1_rent_34 rfl (lv_at hl 2 rfl) ?_
      refine lv_iload_n hx hb dX1_rent_35 rfl (lv_at hl 3 rfl) ?_
      obtain ⟨σ7, e8, hs⟩ := ww_let hs
      refine ww_iast hx hb hW 26 0 (pr_st (hW.rd hgm) (Nat.le_of_ble_eq_true rfl)) rfl hc6 dX1_rent_36 (fun H locs hW => ?_)
      have hW : wv g L σ7 s H locs := by rw [e8]; exact hW
      refine lv_iload_n hx hb dX1_rent_37 rfl (lv_at hl 0 rfl) ?_
      have hs := ww_S hs
      exact wx_i hx hb hr hlocks hW (congrArg Prod.fst hs) (congrArg Prod.snd hs) (Nat.zero_le _) (Nat.zero_le _) dX1_rent_38
  refine lv_iload_n hx hb dX1_rent_0 rfl (lv_at hl 1 rfl) ?_
  obtain ⟨o11, hc9, hs⟩ := ww_bnd hs
  rcases o11 with k12 | v13
  · have hs := ww_sL hs
    have hs := ww_S hs
    have e1 : o_ = .inl k12 := congrArg Prod.fst hs
    have e2 : σ_ = σ := congrArg Prod.snd hs
    subst e1
    exact wx_prop (vx_runS (As := [.int a1]) (rest := []) ⟨hx, hb, hml, hown, hts⟩ (c_X1_cell g hgm l L σ a1 hst _ hc9) (va_cwS 1 hts (lw_S q821 q822 q111 q823) rfl rfl rfl hd_X1_cell.2 ⟨(Nat.le_of_ble_eq_true rfl), (Nat.le_of_ble_eq_true rfl)⟩) (ww_preS hW) rfl rfl hl.1 rfl (lv_room (Nat.le_of_ble_eq_true rfl)) dX1_rent_1 ⟨Nat.le_of_ble_eq_true rfl, Nat.le_of_ble_eq_true rfl⟩) no_v hW hlocks hout rfl e2 (Nat.le_of_ble_eq_true rfl) (Nat.le_of_ble_eq_true rfl)
  · have hs := ww_sR hs
    refine ww_xv0 (vx_runS (As := [.int a1]) (rest := []) ⟨hx, hb, hml, hown, hts⟩ (c_X1_cell g hgm l L σ a1 hst _ hc9) (va_cwS 1 hts (lw_S q821 q822 q111 q823) rfl rfl rfl hd_X1_cell.2 ⟨(Nat.le_of_ble_eq_true rfl), (Nat.le_of_ble_eq_true rfl)⟩) (ww_preS hW) rfl rfl hl.1 rfl (lv_room (Nat.le_of_ble_eq_true rfl)) dX1_rent_1 ⟨Nat.zero_le _, Nat.zero_le _⟩) hW (fun H locs hW => ?_)
    refine lv_iload_n hx hb dX1_rent_4 rfl (lv_at hl 2 rfl) ?_
    refine lv_iconst (v := 0) hx hb dX1_rent_5 (by decide) ?_
    refine lv_sipush (v := 1000) hx hb dX1_rent_6 (by decide) ?_
    obtain ⟨v16, hc14, hs⟩ := ww_bnd hs
    refine ww_ci (va_runS (As := [.int a2, .int (0 : Int32), .int (1000 : Int32)]) (rest := []) ⟨hx, hb, hml, hown, hts⟩ (c_X1_in g hgm l L σ a2 (0 : Int32) (1000 : Int32) _ hc14) (va_cwS 3 hts (lw_S q824 q825 q111 q826) rfl rfl rfl hd_X1_in.2 ⟨(Nat.le_of_ble_eq_true rfl), (Nat.le_of_ble_eq_true rfl)⟩) (ww_preS hW) rfl rfl hl.1 rfl (lv_room (Nat.le_of_ble_eq_true rfl)) dX1_rent_9 ⟨Nat.le_of_ble_eq_true rfl, Nat.le_of_ble_eq_true rfl⟩) hW (fun H locs hW => ?_)
    refine lv_if_ne (tgt := 19) hx hb dX1_rent_12 (by decide) (fun hc17 => ?_) (fun hc17 => ?_)
    · have hs := ww_F hs hc17
      refine lv_iconst (v := 0) hx hb dX1_rent_19 (by decide) ?_
      exact hL20 σ a1 a2 (0 : Int32) _ _ ls hW (lv_sub hl [0, 1, 2] rfl) hs
    · have hs := ww_T hs hc17
      refine lv_iconst (v := 1) hx hb dX1_rent_15 (by decide) ?_
      refine lv_goto (tgt := 20) hx hb dX1_rent_16 (by decide) ?_
      exact hL20 σ a1 a2 (1 : Int32) _ _ ls hW (lv_sub hl [0, 1, 2] rfl) hs
set_option maxHeartbeats 4000000 in
theorem c_X1_onward (g : wg_T) (hgm : gm g = true) (l : Launch) (L : ly_T) (σ : st_T) (i1 : Nat) (a2 : Int32) (a3 : Int32) (r_ : Int32) (hs : m_X1_onward σ i1 a2 a3 = some r_) : CI g l yX1_onward (ws_ yX1_onward cX1_onward 5 (some .int)) 3 83 0 0 [.ref (L 1 0), .ref (L 99 i1), .int a2, .int a3] L σ r_ σ := by
  refine wbody.met (by decide) (Nat.le_of_ble_eq_true rfl) ?_
  intro p e s m args below meth c ls hx hb hr hml hlocks hts hown hnm hW hl
  have hown : s.vm.findClass RX1 = some m.cls := hown
  have hl : lv_has ls 5 [(0, .ref (L 1 0)), (1, .ref (L 99 i1)), (2, .int a2), (3, .int a3)] := hl
  unfold m_X1_onward at hs
  have hL10 : ∀ (n10 : Nat), ∀ (σ : st_T) (x2 : Int32) (x4 : Int32) (H : Heap) (locs : List Loc) (ls : Array Slot), wv g L σ s H locs → lv_has ls 5 [(0, .ref (L 1 0)), (1, .ref (L 99 i1)), (2, .int x2), (4, .int x4)] → (m_X1_onward_L10 i1 n10) σ x2 x4 = some r_ → W p l e (wrm 3 83 0 0) s m args below meth c H locs 0 0 (MQ below (wQi g L r_ σ) args s 0 0 (fun q => gz g ≤ q)) (F0 m 10 ls []) := by
    intro n10
    induction n10 with
    | zero => intro σ x2 x4 H locs ls hW hl hs; rw [m_X1_onward_L10] at hs; cases hs
    | succ n10 ih10 =>
      have hL46 : ∀ (σ : st_T) (x2 : Int32) (x4 : Int32) (H : Heap) (locs : List Loc) (ls : Array Slot), wv g L σ s H locs → lv_has ls 5 [(0, .ref (L 1 0)), (1, .ref (L 99 i1)), (2, .int x2), (4, .int x4)] → (m_X1_onward_L46 i1 (m_X1_onward_L10 i1 n10)) σ x2 x4 = some r_ → W p l e (wrm 3 83 0 0) s m args below meth c H locs 0 0 (MQ below (wQi g L r_ σ) args s 0 0 (fun q => gz g ≤ q)) (F0 m 46 ls []) := by
        intro σ x2 x4 H locs ls hW hl hs
        unfold m_X1_onward_L46 at hs
        refine lv_iinc (v := (x4 + (1 : Int32))) (lv' := [(4, .int (x4 + (1 : Int32))), (0, .ref (L 1 0)), (1, .ref (L 99 i1)), (2, .int x2)]) hx hb dX1_onward_46 hl (k := 3) rfl rfl (by decide) rfl (fun ls hl => ?_)
        refine lv_goto (tgt := 10) hx hb dX1_onward_49 (by decide) ?_
        exact ih10 σ x2 (x4 + (1 : Int32)) _ _ ls hW (lv_sub hl [1, 2, 3, 0] rfl) hs
      intro σ x2 x4 H locs ls hW hl hs
      rw [m_X1_onward_L10] at hs
      refine lv_aload_n hx hb dX1_onward_10 rfl (lv_at hl 0 rfl) ?_
      refine gf_X1_44 hx hb hts hown hW (pr_st (hW.rd hgm) (Nat.le_of_ble_eq_true rfl)) (hW.fl hgm (pr_st (hW.rd hgm) (Nat.le_of_ble_eq_true rfl)) 1 (by decide) rfl (by decide)) dX1_onward_11 ?_
      refine lv_iload_n hx hb dX1_onward_14 rfl (lv_at hl 2 rfl) ?_
      refine lv_iload hx hb dX1_onward_15 (lv_at hl 3 rfl) ?_
      obtain ⟨v3, hc1, hs⟩ := ww_bnd hs
      refine ww_ci (va_runS (As := [.int x2, .int x4]) (rest := [.ref (L 50 0)]) ⟨hx, hb, hml, hown, hts⟩ (c_X1_next g hgm l L σ x2 x4 _ hc1) (va_cwS 2 hts (lw_S q926 q508 q111 q509) rfl rfl rfl hd_X1_next.2 ⟨(Nat.le_of_ble_eq_true rfl), (Nat.le_of_ble_eq_true rfl)⟩) (ww_preS hW) rfl rfl hl.1 rfl (lv_room (Nat.le_of_ble_eq_true rfl)) dX1_onward_17 ⟨Nat.le_of_ble_eq_true rfl, Nat.le_of_ble_eq_true rfl⟩) hW (fun H locs hW => ?_)
      obtain ⟨v6, hc4, hs⟩ := ww_bnd hs
      refine ww_ci (va_runV (As := [.int v3]) (rest := []) ⟨hx, hb, hml, hown, hts⟩ (c_X2_isOpen g hgm l L σ 0 v3 _ hc4) (cwV 1 hts (lw_V q1246 q548 q549 q112 q550) rfl rfl rfl hd_X2_isOpen ⟨(Nat.le_of_ble_eq_true rfl), (Nat.le_of_ble_eq_true rfl)⟩) (ww_preV hW (pr_st (hW.rd hgm) (Nat.le_of_ble_eq_true rfl)) (obv_0 rfl) rfl) rfl rfl hl.1 rfl (lv_room (Nat.le_of_ble_eq_true rfl)) dX1_onward_20 ⟨Nat.le_of_ble_eq_true rfl, Nat.le_of_ble_eq_true rfl⟩) hW (fun H locs hW => ?_)
      refine lv_if_eq (tgt := 46) hx hb dX1_onward_23 (by decide) (fun hc7 => ?_) (fun hc7 => ?_)
      · have hs := ww_T hs hc7
        exact hL46 σ x2 x4 _ _ ls hW (lv_sub hl [0, 1, 2, 3] rfl) hs
      · have hs := ww_F hs hc7
        refine lv_aload_n hx hb dX1_onward_26 rfl (lv_at hl 1 rfl) ?_
        refine lv_iload_n hx hb dX1_onward_27 rfl (lv_at hl 2 rfl) ?_
        refine lv_iload hx hb dX1_onward_28 (lv_at hl 3 rfl) ?_
        obtain ⟨v10, hc8, hs⟩ := ww_bnd hs
        refine ww_ci (va_runS (As := [.int x2, .int x4]) (rest := [.ref (L 99 i1)]) ⟨hx, hb, hml, hown, hts⟩ (c_X1_next g hgm l L σ x2 x4 _ hc8) (va_cwS 2 hts (lw_S q926 q508 q111 q509) rfl rfl rfl hd_X1_next.2 ⟨(Nat.le_of_ble_eq_true rfl), (Nat.le_of_ble_eq_true rfl)⟩) (ww_preS hW) rfl rfl hl.1 rfl (lv_room (Nat.le_of_ble_eq_true rfl)) dX1_onward_30 ⟨Nat.le_of_ble_eq_true rfl, Nat.le_of_ble_eq_true rfl⟩) hW (fun H locs hW => ?_)
        obtain ⟨hc11, hs⟩ := ww_chk hs
        obtain ⟨hc12, hs⟩ := ww_chk hs
        refine ww_iald hx hb hW 99 i1 (pr_dy hc11 rfl rfl) rfl hc12 dX1_onward_33 ?_
        refine lv_aload_n hx hb dX1_onward_34 rfl (lv_at hl 1 rfl) ?_
        refine lv_iload_n hx hb dX1_onward_35 rfl (lv_at hl 2 rfl) ?_
        obtain ⟨hc13, hs⟩ := ww_chk hs
        refine ww_iald hx hb hW 99 i1 (pr_dy hc11 rfl rfl) rfl hc13 dX1_onward_36 ?_
        refine lv_aload_n hx hb dX1_onward_37 rfl (lv_at hl 0 rfl) ?_
        refine lv_iload_n hx hb dX1_onward_38 rfl (lv_at hl 2 rfl) ?_
        obtain ⟨v16, hc14, hs⟩ := ww_bnd hs
        refine ww_ci (va_runV (As := [.int x2]) (rest := [.int (gA_ σ 99 i1 x2.toNatClampNeg), .int (gA_ σ 99 i1 v10.toNatClampNeg)]) ⟨hx, hb, hml, hown, hts⟩ (c_X1_weight g hgm l L σ x2 _ hc14) (cwV 1 hts (lw_V q1656 q1658 qs42 q111 q1659) rfl rfl rfl hd_X1_weight ⟨(Nat.le_of_ble_eq_true rfl), (Nat.le_of_ble_eq_true rfl)⟩) (ww_preV hW (pr_st (hW.rd hgm) (Nat.le_of_ble_eq_true rfl)) (obv_0 rfl) rfl) rfl rfl hl.1 rfl (lv_room (Nat.le_of_ble_eq_true rfl)) dX1_onward_39 ⟨Nat.le_of_ble_eq_true rfl, Nat.le_of_ble_eq_true rfl⟩) hW (fun H locs hW => ?_)
        refine lv_isub hx hb dX1_onward_42 ?_
        refine lv_icmp_eq (tgt := 52) hx hb dX1_onward_43 (by decide) (fun hc17 => ?_) (fun hc17 => ?_)
        · have hs := ww_T hs hc17
          refine lv_iload_n hx hb dX1_onward_52 rfl (lv_at hl 2 rfl) ?_
          refine lv_iload hx hb dX1_onward_53 (lv_at hl 3 rfl) ?_
          obtain ⟨v20, hc18, hs⟩ := ww_bnd hs
          refine ww_ci (va_runS (As := [.int x2, .int x4]) (rest := []) ⟨hx, hb, hml, hown, hts⟩ (c_X1_next g hgm l L σ x2 x4 _ hc18) (va_cwS 2 hts (lw_S q926 q508 q111 q509) rfl rfl rfl hd_X1_next.2 ⟨(Nat.le_of_ble_eq_true rfl), (Nat.le_of_ble_eq_true rfl)⟩) (ww_preS hW) rfl rfl hl.1 rfl (lv_room (Nat.le_of_ble_eq_true rfl)) dX1_onward_55 ⟨Nat.le_of_ble_eq_true rfl, Nat.le_of_ble_eq_true rfl⟩) hW (fun H locs hW => ?_)
          have hs := ww_S hs
          exact we_i hx hb hr hlocks hW hs rfl (Nat.le_of_ble_eq_true rfl) (Nat.le_of_ble_eq_true rfl) dX1_onward_58
        · have hs := ww_F hs hc17
          exact hL46 σ x2 x4 _ _ ls hW (lv_sub hl [0, 1, 2, 3] rfl) hs
  refine lv_iload_n hx hb dX1_onward_0 rfl (lv_at hl 2 rfl) ?_
  refine lv_iload_n hx hb dX1_onward_1 rfl (lv_at hl 3 rfl) ?_
  refine lv_icmp_ne (tgt := 7) hx hb dX1_onward_2 (by decide) (fun hc21 => ?_) (fun hc21 => ?_)
  · have hs := ww_F hs hc21
    refine lv_iconst (v := 0) hx hb dX1_onward_7 (by decide) ?_
    refine lv_istore (lv' := [(4, .int (0 : Int32)), (0, .ref (L 1 0)), (1, .ref (L 99 i1)), (2, .int a2), (3, .int a3)]) hx hb dX1_onward_8 hl (by decide) rfl (fun ls hl => ?_)
    exact hL10 fu_ σ a2 (0 : Int32) _ _ ls hW (lv_sub hl [1, 2, 3, 0] rfl) hs
  · have hs := ww_T hs hc21
    refine lv_iconst (v := (-1)) hx hb dX1_onward_5 (by decide) ?_
    have hs := ww_S hs
    exact we_i hx hb hr hlocks hW hs rfl (Nat.le_of_ble_eq_true rfl) (Nat.le_of_ble_eq_true rfl) dX1_onward_6
set_option maxHeartbeats 4000000 in
theorem c_X19_goes (g : wg_T) (hgm : gm g = true) (l : Launch) (L : ly_T) : ∀ (nn : Nat) (σ : st_T) (i0 : Nat) (a1 : Int32) (a2 : Int32) (σ_ : st_T) (hs : m_X19_goes nn σ i0 a1 a2 = some σ_), CV g l yX19_goes (ws_ yX19_goes cX19_goes 5 none) (4 + 3 * nn) (105 + 83 * nn) 0 0 [.ref (L 92 i0), .int a1, .int a2] L σ σ_ := by
  intro nn
  induction nn with
  | zero => intro σ i0 a1 a2 σ_ hs; rw [m_X19_goes] at hs; cases hs
  | succ nn ihr =>
  intro σ i0 a1 a2 σ_ hs
  refine wbody.met (by decide) (Nat.le_of_ble_eq_true rfl) ?_
  intro p e s m args below meth c ls hx hb hr hml hlocks hts hown hnm hW hl
  have hown : s.vm.findClass RX19 = some m.cls := hown
  have hl : lv_has ls 5 [(0, .ref (L 92 i0)), (1, .int a1), (2, .int a2)] := hl
  rw [m_X19_goes] at hs
  unfold m_X19_goes_b at hs
  have hL14 : ∀ (σ : st_T) (x1 : Int32) (x2 : Int32) (t1 : Int32) (H : Heap) (locs : List Loc) (ls : Array Slot), wv g L σ s H locs → lv_has ls 5 [(0, .ref (L 92 i0)), (1, .int x1), (2, .int x2)] → (m_X19_goes_L14 (m_X19_goes nn) i0) σ x1 x2 t1 = some σ_ → W p l e (wrm (4 + 3 * (nn + 1)) (105 + 83 * (nn + 1)) 0 0) s m args below meth c H locs 0 0 (MQ below (wQv g L σ_) args s 0 0 (fun q => gz g ≤ q)) (F0 m 14 ls [.int t1, .ref (L 92 i0)]) := by
    have hL58 : ∀ (n58 : Nat), ∀ (σ : st_T) (x1 : Int32) (x2 : Int32) (x3 : Int32) (H : Heap) (locs : List Loc) (ls : Array Slot), wv g L σ s H locs → lv_has ls 5 [(0, .ref (L 92 i0)), (1, .int x1), (2, .int x2), (3, .int x3)] → (m_X19_goes_L58 (m_X19_goes nn) i0 n58) σ x1 x2 x3 = some σ_ → W p l e (wrm (4 + 3 * (nn + 1)) (105 + 83 * (nn + 1)) 0 0) s m args below meth c H locs 0 0 (MQ below (wQv g L σ_) args s 0 0 (fun q => gz g ≤ q)) (F0 m 58 ls []) := by
      intro n58
      induction n58 with
      | zero => intro σ x1 x2 x3 H locs ls hW hl hs; rw [m_X19_goes_L58] at hs; cases hs
      | succ n58 ih58 =>
        have hL143 : ∀ (σ : st_T) (x1 : Int32) (x2 : Int32) (x3 : Int32) (H : Heap) (locs : List Loc) (ls : Array Slot), wv g L σ s H locs → lv_has ls 5 [(0, .ref (L 92 i0)), (1, .int x1), (2, .int x2), (3, .int x3)] → (m_X19_goes_L143 (m_X19_goes nn) i0 (m_X19_goes_L58 (m_X19_goes nn) i0 n58)) σ x1 x2 x3 = some σ_ → W p l e (wrm (4 + 3 * (nn + 1)) (105 + 83 * (nn + 1)) 0 0) s m args below meth c H locs 0 0 (MQ below (wQv g L σ_) args s 0 0 (fun q => gz g ≤ q)) (F0 m 143 ls []) := by
          intro σ x1 x2 x3 H locs ls hW hl hs
          unfold m_X19_goes_L143 at hs
          refine lv_iinc (v := (x3 + (1 : Int32))) (lv' := [(3, .int (x3 + (1 : Int32))), (0, .ref (L 92 i0)), (1, .int x1), (2, .int x2)]) hx hb dX19_goes_143 hl (k := 3) rfl rfl (by decide) rfl (fun ls hl => ?_)
          refine lv_goto (tgt := 58) hx hb dX19_goes_146 (by decide) ?_
          exact ih58 σ x1 x2 (x3 + (1 : Int32)) _ _ ls hW (lv_sub hl [1, 2, 3, 0] rfl) hs
        have hL93 : ∀ (σ : st_T) (x1 : Int32) (x2 : Int32) (x3 : Int32) (H : Heap) (locs : List Loc) (ls : Array Slot), wv g L σ s H locs → lv_has ls 5 [(0, .ref (L 92 i0)), (1, .int x1), (2, .int x2), (3, .int x3)] → (m_X19_goes_L93 (m_X19_goes nn) i0 (m_X19_goes_L143 (m_X19_goes nn) i0 (m_X19_goes_L58 (m_X19_goes nn) i0 n58))) σ x1 x2 x3 = some σ_ → W p l e (wrm (4 + 3 * (nn + 1)) (105 + 83 * (nn + 1)) 0 0) s m args below meth c H locs 0 0 (MQ below (wQv g L σ_) args s 0 0 (fun q => gz g ≤ q)) (F0 m 93 ls []) := by
          have hL98 : ∀ (n98 : Nat), ∀ (σ : st_T) (x1 : Int32) (x2 : Int32) (x3 : Int32) (x4 : Int32) (H : Heap) (locs : List Loc) (ls : Array Slot), wv g L σ s H locs → lv_has ls 5 [(0, .ref (L 92 i0)), (1, .int x1), (2, .int x2), (3, .int x3), (4, .int x4)] → (m_X19_goes_L98 (m_X19_goes nn) i0 (m_X19_goes_L143 (m_X19_goes nn) i0 (m_X19_goes_L58 (m_X19_goes nn) i0 n58)) n98) σ x1 x2 x3 x4 = some σ_ → W p l e (wrm (4 + 3 * (nn + 1)) (105 + 83 * (nn + 1)) 0 0) s m args below meth c H locs 0 0 (MQ below (wQv g L σ_) args s 0 0 (fun q => gz g ≤ q)) (F0 m 98 ls []) := by
            intro n98
            induction n98 with
            | zero => intro σ x1 x2 x3 x4 H locs ls hW hl hs; rw [m_X19_goes_L98] at hs; cases hs
            | succ n98 ih98 =>
              have hL137 : ∀ (σ : st_T) (x1 : Int32) (x2 : Int32) (x3 : Int32) (x4 : Int32) (H : Heap) (locs : List Loc) (ls : Array Slot), wv g L σ s H locs → lv_has ls 5 [(0, .ref (L 92 i0)), (1, .int x1), (2, .int x2), (3, .int x3), (4, .int x4)] → (m_X19_goes_L137 (m_X19_goes nn) i0 (m_X19_goes_L98 (m_X19_goes nn) i0 (m_X19_goes_L143 (m_X19_goes nn) i0 (m_X19_goes_L58 (m_X19_goes nn) i0 n58)) n98)) σ x1 x2 x3 x4 = some σ_ → W p l e (wrm (4 + 3 * (nn + 1)) (105 + 83 * (nn + 1)) 0 0) s m args below meth c H locs 0 0 (MQ below (wQv g L σ_) args s 0 0 (fun q => gz g ≤ q)) (F0 m 137 ls []) := by
                intro σ x1 x2 x3 x4 H locs ls hW hl hs
                unfold m_X19_goes_L137 at hs
                refine lv_iinc (v := (x4 + (1 : Int32))) (lv' := [(4, .int (x4 + (1 : Int32))), (0, .ref (L 92 i0)), (1, .int x1), (2, .int x2), (3, .int x3)]) hx hb dX19_goes_137 hl (k := 4) rfl rfl (by decide) rfl (fun ls hl => ?_)
                refine lv_goto (tgt := 98) hx hb dX19_goes_140 (by decide) ?_
                exact ih98 σ x1 x2 x3 (x4 + (1 : Int32)) _ _ ls hW (lv_sub hl [1, 2, 3, 4, 0] rfl) hs
              intro σ x1 x2 x3 x4 H locs ls hW hl hs
              rw [m_X19_goes_L98] at hs
              refine lv_iload hx hb dX19_goes_98 (lv_at hl 4 rfl) ?_
              refine lv_bipush (v := 10) hx hb dX19_goes_100 (by decide) ?_
              refine lv_icmp_ge (tgt := 143) hx hb dX19_goes_102 (by decide) (fun hc1 => ?_) (fun hc1 => ?_)
              · have hs := ww_T hs hc1
                exact hL143 σ x1 x2 x3 _ _ ls hW (lv_sub hl [0, 1, 2, 3] rfl) hs
              · have hs := ww_F hs hc1
                refine lv_aload_n hx hb dX19_goes_105 rfl (lv_at hl 0 rfl) ?_
                obtain ⟨hc2, hs⟩ := ww_chk hs
                refine gf_X19_30 hx hb hts hown hW (pr_dy hc2 rfl rfl) dX19_goes_106 ?_
                refine lv_iconst (v := 2) hx hb dX19_goes_109 (by decide) ?_
                refine lv_icmp_ne (tgt := 143) hx hb dX19_goes_110 (by decide) (fun hc3 => ?_) (fun hc3 => ?_)
                · have hs := ww_F hs hc3
                  exact hL143 σ x1 x2 x3 _ _ ls hW (lv_sub hl [0, 1, 2, 3] rfl) hs
                · have hs := ww_T hs hc3
                  refine lv_aload_n hx hb dX19_goes_113 rfl (lv_at hl 0 rfl) ?_
                  refine lv_iload hx hb dX19_goes_114 (lv_at hl 4 rfl) ?_
                  refine lv_iload_n hx hb dX19_goes_116 rfl (lv_at hl 1 rfl) ?_
                  refine lv_iload_n hx hb dX19_goes_117 rfl (lv_at hl 2 rfl) ?_
                  obtain ⟨v6, hc4, hs⟩ := ww_bnd hs
                  refine ww_ci (va_runV (As := [.int x4, .int x1, .int x2]) (rest := []) ⟨hx, hb, hml, hown, hts⟩ (c_X19_may g hgm l L σ i0 x4 x1 x2 _ hc4) (cwV 3 hts (lw_V q1322 q1324 qs30 q150 q1325) rfl rfl rfl hd_X19_may ⟨(by simp only [wrm]; omega), (by simp only [wrm]; omega)⟩) (ww_preV hW (pr_dy hc2 rfl rfl) (obv_0 rfl) rfl) rfl rfl hl.1 rfl (lv_room (Nat.le_of_ble_eq_true rfl)) dX19_goes_118 ⟨Nat.le_of_ble_eq_true rfl, Nat.le_of_ble_eq_true rfl⟩) hW (fun H locs hW => ?_)
                  refine lv_if_eq (tgt := 137) hx hb dX19_goes_121 (by decide) (fun hc7 => ?_) (fun hc7 => ?_)
                  · have hs := ww_T hs hc7
                    exact hL137 σ x1 x2 x3 x4 _ _ ls hW (lv_sub hl [0, 1, 2, 3, 4] rfl) hs
                  · have hs := ww_F hs hc7
                    refine lv_aload_n hx hb dX19_goes_124 rfl (lv_at hl 0 rfl) ?_
                    refine lv_iload_n hx hb dX19_goes_125 rfl (lv_at hl 1 rfl) ?_
                    refine lv_iconst (v := 1) hx hb dX19_goes_126 (by decide) ?_
                    refine lv_iload_n hx hb dX19_goes_127 rfl (lv_at hl 3 rfl) ?_
                    refine lv_ishl hx hb dX19_goes_128 ?_
                    refine lv_iconst (v := 1) hx hb dX19_goes_129 (by decide) ?_
                    refine lv_iload hx hb dX19_goes_130 (lv_at hl 4 rfl) ?_
                    refine lv_ishl hx hb dX19_goes_132 ?_
                    refine lv_ior hx hb dX19_goes_133 ?_
                    obtain ⟨σ10, hc8, hs⟩ := ww_bnd hs
                    refine ww_cv (va_runV (As := [.int x1, .int (((1 : Int32) <<< (x3 &&& 31)) ||| ((1 : Int32) <<< (x4 &&& 31)))]) (rest := []) ⟨hx, hb, hml, hown, hts⟩ (c_X19_takes g hgm l L (m_X19_goes nn) (4 + 3 * nn) (105 + 83 * nn) ihr σ i0 x1 (((1 : Int32) <<< (x3 &&& 31)) ||| ((1 : Int32) <<< (x4 &&& 31))) _ hc8) (cwV 2 hts (lw_V q1330 q1332 qs32 q150 q1333) rfl rfl rfl hd_X19_takes ⟨(by simp only [wrm]; omega), (by simp only [wrm]; omega)⟩) (ww_preV hW (pr_dy hc2 rfl rfl) (obv_0 rfl) rfl) rfl rfl hl.1 rfl (lv_room (Nat.le_of_ble_eq_true rfl)) dX19_goes_134 ⟨Nat.le_of_ble_eq_true rfl, Nat.le_of_ble_eq_true rfl⟩) hW (fun H locs hW => ?_)
                    exact hL137 σ10 x1 x2 x3 x4 _ _ ls hW (lv_sub hl [0, 1, 2, 3, 4] rfl) hs
          intro σ x1 x2 x3 H locs ls hW hl hs
          unfold m_X19_goes_L93 at hs
          refine lv_iload_n hx hb dX19_goes_93 rfl (lv_at hl 3 rfl) ?_
          refine lv_iconst (v := 1) hx hb dX19_goes_94 (by decide) ?_
          refine lv_iadd hx hb dX19_goes_95 ?_
          refine lv_istore (lv' := [(4, .int (x3 + (1 : Int32))), (0, .ref (L 92 i0)), (1, .int x1), (2, .int x2), (3, .int x3)]) hx hb dX19_goes_96 hl (by decide) rfl (fun ls hl => ?_)
          exact hL98 fu_ σ x1 x2 x3 (x3 + (1 : Int32)) _ _ ls hW (lv_sub hl [1, 2, 3, 4, 0] rfl) hs
        intro σ x1 x2 x3 H locs ls hW hl hs
        rw [m_X19_goes_L58] at hs
        refine lv_iload_n hx hb dX19_goes_58 rfl (lv_at hl 3 rfl) ?_
        refine lv_bipush (v := 10) hx hb dX19_goes_59 (by decide) ?_
        refine lv_icmp_ge (tgt := 149) hx hb dX19_goes_61 (by decide) (fun hc11 => ?_) (fun hc11 => ?_)
        · have hs := ww_T hs hc11
          have hs := ww_S hs
          exact we_v hx hb hr hlocks hW hs (Nat.le_of_ble_eq_true rfl) (Nat.le_of_ble_eq_true rfl) dX19_goes_149
        · have hs := ww_F hs hc11
          refine lv_aload_n hx hb dX19_goes_64 rfl (lv_at hl 0 rfl) ?_
          refine lv_iload_n hx hb dX19_goes_65 rfl (lv_at hl 3 rfl) ?_
          refine lv_iload_n hx hb dX19_goes_66 rfl (lv_at hl 1 rfl) ?_
          refine lv_iload_n hx hb dX19_goes_67 rfl (lv_at hl 2 rfl) ?_
          obtain ⟨v14, hc12, hs⟩ := ww_bnd hs
          obtain ⟨hc15, hs⟩ := ww_chk hs
          refine ww_ci (va_runV (As := [.int x3, .int x1, .int x2]) (rest := []) ⟨hx, hb, hml, hown, hts⟩ (c_X19_may g hgm l L σ i0 x3 x1 x2 _ hc12) (cwV 3 hts (lw_V q1322 q1324 qs30 q150 q1325) rfl rfl rfl hd_X19_may ⟨(by simp only [wrm]; omega), (by simp only [wrm]; omega)⟩) (ww_preV hW (pr_dy hc15 rfl rfl) (obv_0 rfl) rfl) rfl rfl hl.1 rfl (lv_room (Nat.le_of_ble_eq_true rfl)) dX19_goes_68 ⟨Nat.le_of_ble_eq_true rfl, Nat.le_of_ble_eq_true rfl⟩) hW (fun H locs hW => ?_)
          refine lv_if_ne (tgt := 77) hx hb dX19_goes_71 (by decide) (fun hc16 => ?_) (fun hc16 => ?_)
          · have hs := ww_F hs hc16
            refine lv_aload_n hx hb dX19_goes_77 rfl (lv_at hl 0 rfl) ?_
            refine gf_X19_30 hx hb hts hown hW (pr_dy hc15 rfl rfl) dX19_goes_78 ?_
            refine lv_iconst (v := 1) hx hb dX19_goes_81 (by decide) ?_
            refine lv_icmp_ne (tgt := 93) hx hb dX19_goes_82 (by decide) (fun hc17 => ?_) (fun hc17 => ?_)
            · have hs := ww_F hs hc17
              exact hL93 σ x1 x2 x3 _ _ ls hW (lv_sub hl [0, 1, 2, 3] rfl) hs
            · have hs := ww_T hs hc17
              refine lv_aload_n hx hb dX19_goes_85 rfl (lv_at hl 0 rfl) ?_
              refine lv_iload_n hx hb dX19_goes_86 rfl (lv_at hl 1 rfl) ?_
              refine lv_iconst (v := 1) hx hb dX19_goes_87 (by decide) ?_
              refine lv_iload_n hx hb dX19_goes_88 rfl (lv_at hl 3 rfl) ?_
              refine lv_ishl hx hb dX19_goes_89 ?_
              obtain ⟨σ20, hc18, hs⟩ := ww_bnd hs
              refine ww_cv (va_runV (As := [.int x1, .int ((1 : Int32) <<< (x3 &&& 31))]) (rest := []) ⟨hx, hb, hml, hown, hts⟩ (c_X19_takes g hgm l L (m_X19_goes nn) (4 + 3 * nn) (105 + 83 * nn) ihr σ i0 x1 ((1 : Int32) <<< (x3 &&& 31)) _ hc18) (cwV 2 hts (lw_V q1330 q1332 qs32 q150 q1333) rfl rfl rfl hd_X19_takes ⟨(by simp only [wrm]; omega), (by simp only [wrm]; omega)⟩) (ww_preV hW (pr_dy hc15 rfl rfl) (obv_0 rfl) rfl) rfl rfl hl.1 rfl (lv_room (Nat.le_of_ble_eq_true rfl)) dX19_goes_90 ⟨Nat.le_of_ble_eq_true rfl, Nat.le_of_ble_eq_true rfl⟩) hW (fun H locs hW => ?_)
              exact hL93 σ20 x1 x2 x3 _ _ ls hW (lv_sub hl [0, 1, 2, 3] rfl) hs
          · have hs := ww_T hs hc16
            refine lv_goto (tgt := 143) hx hb dX19_goes_74 (by decide) ?_
            exact hL143 σ x1 x2 x3 _ _ ls hW (lv_sub hl [0, 1, 2, 3] rfl) hs
    intro σ x1 x2 t1 H locs ls hW hl hs
    unfold m_X19_goes_L14 at hs
    obtain ⟨hc21, hs⟩ := ww_chk hs
    obtain ⟨hc22, hs⟩ := ww_chk hs
    obtain ⟨σ23, e24, hs⟩ := ww_let hs
    refine pf_X19_59 hx hb hts hown hW (pr_dy hc21 rfl rfl) hc22 dX19_goes_14 (fun H locs hW => ?_)
    have hW : wv g L σ23 s H locs := by rw [e24]; exact hW
    have hc25 : i0 < gN_ σ23 92 := by rw [e24]; exact hc21
    refine lv_aload_n hx hb dX19_goes_17 rfl (lv_at hl 0 rfl) ?_
    obtain ⟨v28, σ29, hc26, hs⟩ := ww_bn2 hs
    refine ww_ci (va_runV (As := []) (rest := []) ⟨hx, hb, hml, hown, hts⟩ (c_X19_isBetter g hgm l L σ23 i0 _ _ hc26) (cwV 0 hts (lw_V q1316 q1318 qs29 q150 q1319) rfl rfl rfl hd_X19_isBetter ⟨(by simp only [wrm]; omega), (by simp only [wrm]; omega)⟩) (ww_preV hW (pr_dy hc25 rfl rfl) (obv_0 rfl) rfl) rfl rfl hl.1 rfl (lv_room (Nat.le_of_ble_eq_true rfl)) dX19_goes_18 ⟨Nat.le_of_ble_eq_true rfl, Nat.le_of_ble_eq_true rfl⟩) hW (fun H locs hW => ?_)
    refine lv_if_ne (tgt := 25) hx hb dX19_goes_21 (by decide) (fun hc30 => ?_) (fun hc30 => ?_)
    · have hs := ww_F hs hc30
      refine lv_iload_n hx hb dX19_goes_25 rfl (lv_at hl 1 rfl) ?_
      refine lv_aload_n hx hb dX19_goes_26 rfl (lv_at hl 0 rfl) ?_
      obtain ⟨hc31, hs⟩ := ww_chk hs
      refine gf_X19_27 hx hb hts hown hW (pr_dy hc31 rfl rfl) dX19_goes_27 ?_
      refine lv_icmp_ne (tgt := 56) hx hb dX19_goes_30 (by decide) (fun hc32 => ?_) (fun hc32 => ?_)
      · have hs := ww_F hs hc32
        refine lv_iconst (v := 0) hx hb dX19_goes_56 (by decide) ?_
        refine lv_istore_n (lv' := [(3, .int (0 : Int32)), (0, .ref (L 92 i0)), (1, .int x1), (2, .int x2)]) hx hb dX19_goes_57 rfl hl (by decide) rfl (fun ls hl => ?_)
        exact hL58 fu_ σ29 x1 x2 (0 : Int32) _ _ ls hW (lv_sub hl [1, 2, 3, 0] rfl) hs
      · have hs := ww_T hs hc32
        refine lv_aload_n hx hb dX19_goes_33 rfl (lv_at hl 0 rfl) ?_
        refine lv_iconst (v := 1) hx hb dX19_goes_34 (by decide) ?_
        obtain ⟨σ33, e34, hs⟩ := ww_let hs
        refine pf_X19_67 hx hb hts hown hW (pr_dy hc31 rfl rfl) (Or.inr rfl) dX19_goes_35 (fun H locs hW => ?_)
        have hW : wv g L σ33 s H locs := by rw [e34]; exact hW
        have hc35 : i0 < gN_ σ33 92 := by rw [e34]; exact hc31
        refine lv_aload_n hx hb dX19_goes_38 rfl (lv_at hl 0 rfl) ?_
        refine gf_X19_33 hx hb hts hown hW (pr_dy hc35 rfl rfl) (hW.fl hgm (pr_dy hc35 rfl rfl) 2 (by decide) rfl (by decide)) dX19_goes_39 ?_
        refine lv_iconst (v := 0) hx hb dX19_goes_42 (by decide) ?_
        refine lv_aload_n hx hb dX19_goes_43 rfl (lv_at hl 0 rfl) ?_
        refine gf_X19_36 hx hb hts hown hW (pr_dy hc35 rfl rfl) (hW.fl hgm (pr_dy hc35 rfl rfl) 3 (by decide) rfl (by decide)) dX19_goes_44 ?_
        refine lv_iconst (v := 0) hx hb dX19_goes_47 (by decide) ?_
        refine lv_aload_n hx hb dX19_goes_48 rfl (lv_at hl 0 rfl) ?_
        refine gf_X19_27 hx hb hts hown hW (pr_dy hc35 rfl rfl) dX19_goes_49 ?_
        obtain ⟨hc36, hs⟩ := ww_chk hs
        obtain ⟨hc37, hs⟩ := ww_chk hs
        obtain ⟨hc38, hs⟩ := ww_chk hs
        obtain ⟨σ39, e40, hs⟩ := ww_let hs
        refine ww_copyi hx hb (hml.trans hl.1.symm) hown (hts _ q1321) (hts _ q495) (hts _ q494) (hts _ q145) hW (pr_dy hc36 rfl rfl) (pr_dy hc37 rfl rfl) (wE_2 rfl) (wE_2 rfl) hc38.1 hc38.2.1 hc38.2.2.1 hc38.2.2.2.1 hc38.2.2.2.2 (copy_new (wE_2 rfl) (wE_2 rfl)) (fun _ _ h => wE_sA h) rfl (vq_FA rfl rfl) (rdy_FA rfl rfl) (by simp only [wrm]; omega) (Nat.le_trans (m := 60) (Nat.le_of_ble_eq_true rfl) (by simp only [wrm]; omega)) dX19_goes_52 (fun H locs hW => ?_)
        have hW : wv g L σ39 s H locs := by rw [e40]; exact hW
        have hc41 : i0 < gN_ σ39 92 := by rw [e40]; exact hc35
        have hc42 : i0 < gN_ σ39 93 := by rw [e40]; exact hc36
        have hc43 : i0 < gN_ σ39 94 := by rw [e40]; exact hc37
        have hs := ww_S hs
        exact we_v hx hb hr hlocks hW hs (Nat.le_of_ble_eq_true rfl) (Nat.le_of_ble_eq_true rfl) dX19_goes_55
    · have hs := ww_T hs hc30
      have hs := ww_S hs
      exact we_v hx hb hr hlocks hW hs (Nat.le_of_ble_eq_true rfl) (Nat.le_of_ble_eq_true rfl) dX19_goes_24
  refine lv_aload_n hx hb dX19_goes_0 rfl (lv_at hl 0 rfl) ?_
  refine lv_iload_n hx hb dX19_goes_1 rfl (lv_at hl 1 rfl) ?_
  refine lv_aload_n hx hb dX19_goes_2 rfl (lv_at hl 0 rfl) ?_
  obtain ⟨hc44, hs⟩ := ww_chk hs
  refine gf_X19_27 hx hb hts hown hW (pr_dy hc44 rfl rfl) dX19_goes_3 ?_
  refine lv_icmp_ne (tgt := 13) hx hb dX19_goes_6 (by decide) (fun hc45 => ?_) (fun hc45 => ?_)
  · have hs := ww_F hs hc45
    refine lv_iconst (v := 0) hx hb dX19_goes_13 (by decide) ?_
    exact hL14 σ a1 a2 (0 : Int32) _ _ ls hW (lv_sub hl [0, 1, 2] rfl) hs
  · have hs := ww_T hs hc45
    refine lv_iconst (v := 1) hx hb dX19_goes_9 (by decide) ?_
    refine lv_goto (tgt := 14) hx hb dX19_goes_10 (by decide) ?_
    exact hL14 σ a1 a2 (1 : Int32) _ _ ls hW (lv_sub hl [0, 1, 2] rfl) hs
set_option maxHeartbeats 4000000 in
theorem c_X2_step (g : wg_T) (hgm : gm g = true) (l : Launch) (L : ly_T) (σ : st_T) (i0 : Nat) (a1 : Int32) (a2 : Int32) (a3 : Int32) (r_ : Int32) (hs : m_X2_step σ i0 a1 a2 a3 = some r_) : CI g l yX2_step (ws_ yX2_step cX2_step 4 (some .int)) 3 82 0 0 [.ref (L 50 i0), .int a1, .int a2, .int a3] L σ r_ σ := by
  refine wbody.met (by decide) (Nat.le_of_ble_eq_true rfl) ?_
  intro p e s m args below meth c ls hx hb hr hml hlocks hts hown hnm hW hl
  have hown : s.vm.findClass RX2 = some m.cls := hown
  have hl : lv_has ls 4 [(0, .ref (L 50 i0)), (1, .int a1), (2, .int a2), (3, .int a3)] := hl
  unfold m_X2_step at hs
  refine lv_iload_n hx hb dX2_step_0 rfl (lv_at hl 3 rfl) ?_
  refine lv_aload_n hx hb dX2_step_1 rfl (lv_at hl 0 rfl) ?_
  refine lv_iload_n hx hb dX2_step_2 rfl (lv_at hl 1 rfl) ?_
  refine lv_iload_n hx hb dX2_step_3 rfl (lv_at hl 2 rfl) ?_
  obtain ⟨v3, hc1, hs⟩ := ww_bnd hs
  obtain ⟨hc4, hs⟩ := ww_chk hs
  refine ww_ci (va_runV (As := [.int a1, .int a2]) (rest := [.int a3]) ⟨hx, hb, hml, hown, hts⟩ (c_X2_fence g hgm l L σ i0 a1 a2 _ hc1) (cwV 2 hts (lw_V q555 q556 q557 q112 q558) rfl rfl rfl hd_X2_fence ⟨(Nat.le_of_ble_eq_true rfl), (Nat.le_of_ble_eq_true rfl)⟩) (ww_preV hW (pr_st (hW.rd hgm) hc4) (obv_0 rfl) rfl) rfl rfl hl.1 rfl (lv_room (Nat.le_of_ble_eq_true rfl)) dX2_step_4 ⟨Nat.le_of_ble_eq_true rfl, Nat.le_of_ble_eq_true rfl⟩) hW (fun H locs hW => ?_)
  refine lv_iadd hx hb dX2_step_7 ?_
  refine lv_aload_n hx hb dX2_step_8 rfl (lv_at hl 0 rfl) ?_
  refine gf_X2_24 hx hb hts hown hW (pr_st (hW.rd hgm) hc4) (hW.fl hgm (pr_st (hW.rd hgm) hc4) 4 (by decide) rfl (by decide)) dX2_step_9 ?_
  refine lv_iload_n hx hb dX2_step_12 rfl (lv_at hl 2 rfl) ?_
  obtain ⟨hc5, hs⟩ := ww_chk hs
  refine ww_iald hx hb hW 55 i0 (pr_st (hW.rd hgm) hc4) rfl hc5 dX2_step_13 ?_
  refine lv_iadd hx hb dX2_step_14 ?_
  have hs := ww_S hs
  exact we_i hx hb hr hlocks hW hs rfl (Nat.le_of_ble_eq_true rfl) (Nat.le_of_ble_eq_true rfl) dX2_step_15
set_option maxHeartbeats 4000000 in
theorem c_X3_from (g : wg_T) (hgm : gm g = true) (l : Launch) (L : ly_T) (σ : st_T) (i1 : Nat) (a2 : Int32) (a3 : Int32) (a4 : Int32) (σ_ : st_T) (hs : m_X3_from σ i1 a2 a3 a4 = some σ_) : CV g l yX3_from (ws_ yX3_from cX3_from 8 none) 4 105 0 0 [.ref (L 60 0), .ref (L 50 i1), .int a2, .int a3, .int a4] L σ σ_ := by
  refine wbody.met (by decide) (Nat.le_of_ble_eq_true rfl) ?_
  intro p e s m args below meth c ls hx hb hr hml hlocks hts hown hnm hW hl
  have hown : s.vm.findClass RX3 = some m.cls := hown
  have hl : lv_has ls 8 [(0, .ref (L 60 0)), (1, .ref (L 50 i1)), (2, .int a2), (3, .int a3), (4, .int a4)] := hl
  unfold m_X3_from at hs
  have hL3 : ∀ (n3 : Nat), ∀ (σ : st_T) (x2 : Int32) (x3 : Int32) (x4 : Int32) (x5 : Int32) (H : Heap) (locs : List Loc) (ls : Array Slot), wv g L σ s H locs → lv_has ls 8 [(0, .ref (L 60 0)), (1, .ref (L 50 i1)), (2, .int x2), (3, .int x3), (4, .int x4), (5, .int x5)] → (m_X3_from_L3 i1 n3) σ x2 x3 x4 x5 = some σ_ → W p l e (wrm 4 105 0 0) s m args below meth c H locs 0 0 (MQ below (wQv g L σ_) args s 0 0 (fun q => gz g ≤ q)) (F0 m 3 ls []) := by
    intro n3
    induction n3 with
    | zero => intro σ x2 x3 x4 x5 H locs ls hW hl hs; rw [m_X3_from_L3] at hs; cases hs
    | succ n3 ih3 =>
      have hL46 : ∀ (n46 : Nat), ∀ (σ : st_T) (x3 : Int32) (x4 : Int32) (x5 : Int32) (H : Heap) (locs : List Loc) (ls : Array Slot), wv g L σ s H locs → lv_has ls 8 [(0, .ref (L 60 0)), (1, .ref (L 50 i1)), (3, .int x3), (4, .int x4), (5, .int x5)] → (m_X3_from_L46 i1 n46) σ x3 x4 x5 = some σ_ → W p l e (wrm 4 105 0 0) s m args below meth c H locs 0 0 (MQ below (wQv g L σ_) args s 0 0 (fun q => gz g ≤ q)) (F0 m 46 ls []) := by
        intro n46
        induction n46 with
        | zero => intro σ x3 x4 x5 H locs ls hW hl hs; rw [m_X3_from_L46] at hs; cases hs
        | succ n46 ih46 =>
          have hL63 : ∀ (n63 : Nat), ∀ (σ : st_T) (x3 : Int32) (x4 : Int32) (x5 : Int32) (x6 : Int32) (H : Heap) (locs : List Loc) (ls : Array Slot), wv g L σ s H locs → lv_has ls 8 [(0, .ref (L 60 0)), (1, .ref (L 50 i1)), (3, .int x3), (4, .int x4), (5, .int x5), (6, .int x6)] → (m_X3_from_L63 i1 (m_X3_from_L46 i1 n46) n63) σ x3 x4 x5 x6 = some σ_ → W p l e (wrm 4 105 0 0) s m args below meth c H locs 0 0 (MQ below (wQv g L σ_) args s 0 0 (fun q => gz g ≤ q)) (F0 m 63 ls []) := by
            intro n63
            induction n63 with
            | zero => intro σ x3 x4 x5 x6 H locs ls hW hl hs; rw [m_X3_from_L63] at hs; cases hs
            | succ n63 ih63 =>
              have hL138 : ∀ (σ : st_T) (x3 : Int32) (x4 : Int32) (x5 : Int32) (x6 : Int32) (H : Heap) (locs : List Loc) (ls : Array Slot), wv g L σ s H locs → lv_has ls 8 [(0, .ref (L 60 0)), (1, .ref (L 50 i1)), (3, .int x3), (4, .int x4), (5, .int x5), (6, .int x6)] → (m_X3_from_L138 i1 (m_X3_from_L63 i1 (m_X3_from_L46 i1 n46) n63)) σ x3 x4 x5 x6 = some σ_ → W p l e (wrm 4 105 0 0) s m args below meth c H locs 0 0 (MQ below (wQv g L σ_) args s 0 0 (fun q => gz g ≤ q)) (F0 m 138 ls []) := by
                intro σ x3 x4 x5 x6 H locs ls hW hl hs
                unfold m_X3_from_L138 at hs
                refine lv_iinc (v := (x6 + (1 : Int32))) (lv' := [(6, .int (x6 + (1 : Int32))), (0, .ref (L 60 0)), (1, .ref (L 50 i1)), (3, .int x3), (4, .int x4), (5, .int x5)]) hx hb dX3_from_138 hl (k := 5) rfl rfl (by decide) rfl (fun ls hl => ?_)
                refine lv_goto (tgt := 63) hx hb dX3_from_141 (by decide) ?_
                exact ih63 σ x3 x4 x5 (x6 + (1 : Int32)) _ _ ls hW (lv_sub hl [1, 2, 3, 4, 5, 0] rfl) hs
              have hL133 : ∀ (σ : st_T) (x3 : Int32) (x4 : Int32) (x5 : Int32) (x6 : Int32) (t1 : Int32) (t2 : Int32) (t3 : Int32) (t4 : Int32) (H : Heap) (locs : List Loc) (ls : Array Slot), wv g L σ s H locs → lv_has ls 8 [(0, .ref (L 60 0)), (1, .ref (L 50 i1)), (3, .int x3), (4, .int x4), (5, .int x5), (6, .int x6)] → (m_X3_from_L133 i1 (m_X3_from_L138 i1 (m_X3_from_L63 i1 (m_X3_from_L46 i1 n46) n63))) σ x3 x4 x5 x6 t1 t2 t3 t4 = some σ_ → W p l e (wrm 4 105 0 0) s m args below meth c H locs 0 0 (MQ below (wQv g L σ_) args s 0 0 (fun q => gz g ≤ q)) (F0 m 133 ls [.int t4, .int t3, .int t2, .int t1, .ref (L 61 0)]) := by
                intro σ x3 x4 x5 x6 t1 t2 t3 t4 H locs ls hW hl hs
                unfold m_X3_from_L133 at hs
                refine lv_iadd hx hb dX3_from_133 ?_
                refine va_mmin hx hb (hml.trans hl.1.symm) hown (hts _ q562) (hts _ q505) (hts _ q134) (hts _ q506) (Nat.le_of_ble_eq_true rfl) (Nat.le_of_ble_eq_true rfl) (Nat.le_of_ble_eq_true rfl) (Nat.le_of_ble_eq_true rfl) dX3_from_134 ?_
                obtain ⟨hc1, hs⟩ := ww_chk hs
                obtain ⟨σ2, e3, hs⟩ := ww_let hs
                refine ww_iast hx hb hW 61 0 (pr_st (hW.rd hgm) (Nat.le_of_ble_eq_true rfl)) rfl hc1 dX3_from_137 (fun H locs hW => ?_)
                have hW : wv g L σ2 s H locs := by rw [e3]; exact hW
                exact hL138 σ2 x3 x4 x5 x6 _ _ ls hW (lv_sub hl [0, 1, 2, 3, 4, 5] rfl) hs
              intro σ x3 x4 x5 x6 H locs ls hW hl hs
              rw [m_X3_from_L63] at hs
              refine lv_iload hx hb dX3_from_63 (lv_at hl 5 rfl) ?_
              refine lv_iconst (v := 4) hx hb dX3_from_65 (by decide) ?_
              refine lv_icmp_ge (tgt := 144) hx hb dX3_from_66 (by decide) (fun hc4 => ?_) (fun hc4 => ?_)
              · have hs := ww_T hs hc4
                refine lv_aload_n hx hb dX3_from_144 rfl (lv_at hl 0 rfl) ?_
                obtain ⟨v7, hc5, hs⟩ := ww_bnd hs
                refine ww_ci (va_runV (As := []) (rest := []) ⟨hx, hb, hml, hown, hts⟩ (c_X3_nearest g hgm l L σ  _ hc5) (cwV 0 hts (lw_V q542 q544 qs3 q113 q545) rfl rfl rfl hd_X3_nearest ⟨(Nat.le_of_ble_eq_true rfl), (Nat.le_of_ble_eq_true rfl)⟩) (ww_preV hW (pr_st (hW.rd hgm) (Nat.le_of_ble_eq_true rfl)) (obv_0 rfl) rfl) rfl rfl hl.1 rfl (lv_room (Nat.le_of_ble_eq_true rfl)) dX3_from_145 ⟨Nat.le_of_ble_eq_true rfl, Nat.le_of_ble_eq_true rfl⟩) hW (fun H locs hW => ?_)
                refine lv_istore (lv' := [(5, .int v7), (0, .ref (L 60 0)), (1, .ref (L 50 i1)), (3, .int x3), (4, .int x4), (6, .int x6)]) hx hb dX3_from_148 hl (by decide) rfl (fun ls hl => ?_)
                refine lv_goto (tgt := 46) hx hb dX3_from_150 (by decide) ?_
                exact ih46 σ x3 x4 v7 _ _ ls hW (lv_sub hl [1, 2, 3, 4, 0] rfl) hs
              · have hs := ww_F hs hc4
                refine lv_iload hx hb dX3_from_69 (lv_at hl 4 rfl) ?_
                refine lv_iload hx hb dX3_from_71 (lv_at hl 5 rfl) ?_
                obtain ⟨v10, hc8, hs⟩ := ww_bnd hs
                refine ww_ci (va_runSN (As := [.int x5, .int x6]) (rest := []) ⟨hx, hb, hml, hown, hts⟩ (c_X1_next g hgm l L σ x5 x6 _ hc8) ⟨va_cnB 2 hts (lw_meth q509) rfl rfl rfl (hW.nw 25 rfl) (hts _ q111) hd_X1_next.2 ⟨(Nat.le_of_ble_eq_true rfl), (Nat.le_of_ble_eq_true rfl)⟩, hts _ q508, trivial⟩ (ww_preS hW) rfl rfl hl.1 rfl (lv_room (Nat.le_of_ble_eq_true rfl)) dX3_from_73 ⟨Nat.le_of_ble_eq_true rfl, Nat.le_of_ble_eq_true rfl⟩) hW (fun H locs hW => ?_)
                refine lv_istore (lv' := [(7, .int v10), (0, .ref (L 60 0)), (1, .ref (L 50 i1)), (3, .int x3), (4, .int x4), (5, .int x5), (6, .int x6)]) hx hb dX3_from_76 hl (by decide) rfl (fun ls hl => ?_)
                refine lv_aload_n hx hb dX3_from_78 rfl (lv_at hl 2 rfl) ?_
                refine lv_iload hx hb dX3_from_79 (lv_at hl 0 rfl) ?_
                obtain ⟨v13, hc11, hs⟩ := ww_bnd hs
                obtain ⟨hc14, hs⟩ := ww_chk hs
                refine ww_ci (va_runV (As := [.int v10]) (rest := []) ⟨hx, hb, hml, hown, hts⟩ (c_X2_isOpen g hgm l L σ i1 v10 _ hc11) (cwV 1 hts (lw_V q547 q548 q549 q112 q550) rfl rfl rfl hd_X2_isOpen ⟨(Nat.le_of_ble_eq_true rfl), (Nat.le_of_ble_eq_true rfl)⟩) (ww_preV hW (pr_st (hW.rd hgm) hc14) (obv_0 rfl) rfl) rfl rfl hl.1 rfl (lv_room (Nat.le_of_ble_eq_true rfl)) dX3_from_81 ⟨Nat.le_of_ble_eq_true rfl, Nat.le_of_ble_eq_true rfl⟩) hW (fun H locs hW => ?_)
                refine lv_if_eq (tgt := 138) hx hb dX3_from_84 (by decide) (fun hc15 => ?_) (fun hc15 => ?_)
                · have hs := ww_T hs hc15
                  exact hL138 σ x3 x4 x5 x6 _ _ ls hW (lv_sub hl [1, 2, 3, 4, 5, 6] rfl) hs
                · have hs := ww_F hs hc15
                  refine lv_aload_n hx hb dX3_from_87 rfl (lv_at hl 1 rfl) ?_
                  refine gf_X3_9 hx hb hts hown hW (pr_st (hW.rd hgm) (Nat.le_of_ble_eq_true rfl)) (hW.fl hgm (pr_st (hW.rd hgm) (Nat.le_of_ble_eq_true rfl)) 0 (by decide) rfl (by decide)) dX3_from_88 ?_
                  refine lv_iload hx hb dX3_from_91 (lv_at hl 0 rfl) ?_
                  refine lv_aload_n hx hb dX3_from_93 rfl (lv_at hl 1 rfl) ?_
                  refine gf_X3_9 hx hb hts hown hW (pr_st (hW.rd hgm) (Nat.le_of_ble_eq_true rfl)) (hW.fl hgm (pr_st (hW.rd hgm) (Nat.le_of_ble_eq_true rfl)) 0 (by decide) rfl (by decide)) dX3_from_94 ?_
                  refine lv_iload hx hb dX3_from_97 (lv_at hl 0 rfl) ?_
                  obtain ⟨hc16, hs⟩ := ww_chk hs
                  refine ww_iald hx hb hW 61 0 (pr_st (hW.rd hgm) (Nat.le_of_ble_eq_true rfl)) rfl hc16 dX3_from_99 ?_
                  refine lv_aload_n hx hb dX3_from_100 rfl (lv_at hl 1 rfl) ?_
                  refine gf_X3_9 hx hb hts hown hW (pr_st (hW.rd hgm) (Nat.le_of_ble_eq_true rfl)) (hW.fl hgm (pr_st (hW.rd hgm) (Nat.le_of_ble_eq_true rfl)) 0 (by decide) rfl (by decide)) dX3_from_101 ?_
                  refine lv_iload hx hb dX3_from_104 (lv_at hl 5 rfl) ?_
                  obtain ⟨hc17, hs⟩ := ww_chk hs
                  refine ww_iald hx hb hW 61 0 (pr_st (hW.rd hgm) (Nat.le_of_ble_eq_true rfl)) rfl hc17 dX3_from_106 ?_
                  refine lv_iload hx hb dX3_from_107 (lv_at hl 4 rfl) ?_
                  refine lv_if_eq (tgt := 124) hx hb dX3_from_109 (by decide) (fun hc18 => ?_) (fun hc18 => ?_)
                  · have hs := ww_T hs hc18
                    refine lv_aload_n hx hb dX3_from_124 rfl (lv_at hl 2 rfl) ?_
                    refine lv_iload hx hb dX3_from_125 (lv_at hl 5 rfl) ?_
                    refine lv_iload hx hb dX3_from_127 (lv_at hl 0 rfl) ?_
                    refine lv_iload_n hx hb dX3_from_129 rfl (lv_at hl 3 rfl) ?_
                    obtain ⟨v21, hc19, hs⟩ := ww_bnd hs
                    refine ww_ci (va_runV (As := [.int x5, .int v10, .int x3]) (rest := [.int (gA_ σ 61 0 x5.toNatClampNeg), .int (gA_ σ 61 0 v10.toNatClampNeg), .int v10, .ref (L 61 0)]) ⟨hx, hb, hml, hown, hts⟩ (c_X2_step g hgm l L σ i1 x5 v10 x3 _ hc19) (cwV 3 hts (lw_V q551 q552 q553 q112 q554) rfl rfl rfl hd_X2_step ⟨(Nat.le_of_ble_eq_true rfl), (Nat.le_of_ble_eq_true rfl)⟩) (ww_preV hW (pr_st (hW.rd hgm) hc14) (obv_0 rfl) rfl) rfl rfl hl.1 rfl (lv_room (Nat.le_of_ble_eq_true rfl)) dX3_from_130 ⟨Nat.le_of_ble_eq_true rfl, Nat.le_of_ble_eq_true rfl⟩) hW (fun H locs hW => ?_)
                    exact hL133 σ x3 x4 x5 x6 v10 (gA_ σ 61 0 v10.toNatClampNeg) (gA_ σ 61 0 x5.toNatClampNeg) v21 _ _ ls hW (lv_sub hl [1, 2, 3, 4, 5, 6] rfl) hs
                  · have hs := ww_F hs hc18
                    refine lv_aload_n hx hb dX3_from_112 rfl (lv_at hl 2 rfl) ?_
                    refine lv_iload hx hb dX3_from_113 (lv_at hl 0 rfl) ?_
                    refine lv_iload hx hb dX3_from_115 (lv_at hl 5 rfl) ?_
                    refine lv_iload_n hx hb dX3_from_117 rfl (lv_at hl 3 rfl) ?_
                    obtain ⟨v24, hc22, hs⟩ := ww_bnd hs
                    refine ww_ci (va_runV (As := [.int v10, .int x5, .int x3]) (rest := [.int (gA_ σ 61 0 x5.toNatClampNeg), .int (gA_ σ 61 0 v10.toNatClampNeg), .int v10, .ref (L 61 0)]) ⟨hx, hb, hml, hown, hts⟩ (c_X2_step g hgm l L σ i1 v10 x5 x3 _ hc22) (cwV 3 hts (lw_V q551 q552 q553 q112 q554) rfl rfl rfl hd_X2_step ⟨(Nat.le_of_ble_eq_true rfl), (Nat.le_of_ble_eq_true rfl)⟩) (ww_preV hW (pr_st (hW.rd hgm) hc14) (obv_0 rfl) rfl) rfl rfl hl.1 rfl (lv_room (Nat.le_of_ble_eq_true rfl)) dX3_from_118 ⟨Nat.le_of_ble_eq_true rfl, Nat.le_of_ble_eq_true rfl⟩) hW (fun H locs hW => ?_)
                    refine lv_goto (tgt := 133) hx hb dX3_from_121 (by decide) ?_
                    exact hL133 σ x3 x4 x5 x6 v10 (gA_ σ 61 0 v10.toNatClampNeg) (gA_ σ 61 0 x5.toNatClampNeg) v24 _ _ ls hW (lv_sub hl [1, 2, 3, 4, 5, 6] rfl) hs
          intro σ x3 x4 x5 H locs ls hW hl hs
          rw [m_X3_from_L46] at hs
          refine lv_iload hx hb dX3_from_46 (lv_at hl 4 rfl) ?_
          refine lv_iconst (v := (-1)) hx hb dX3_from_48 (by decide) ?_
          refine lv_icmp_eq (tgt := 153) hx hb dX3_from_49 (by decide) (fun hc25 => ?_) (fun hc25 => ?_)
          · have hs := ww_T hs hc25
            have hs := ww_S hs
            exact we_v hx hb hr hlocks hW hs (Nat.le_of_ble_eq_true rfl) (Nat.le_of_ble_eq_true rfl) dX3_from_153
          · have hs := ww_F hs hc25
            refine lv_aload_n hx hb dX3_from_52 rfl (lv_at hl 0 rfl) ?_
            refine gf_X3_18 hx hb hts hown hW (pr_st (hW.rd hgm) (Nat.le_of_ble_eq_true rfl)) (hW.fl hgm (pr_st (hW.rd hgm) (Nat.le_of_ble_eq_true rfl)) 2 (by decide) rfl (by decide)) dX3_from_53 ?_
            refine lv_iload hx hb dX3_from_56 (lv_at hl 4 rfl) ?_
            refine lv_iconst (v := 1) hx hb dX3_from_58 (by decide) ?_
            obtain ⟨hc26, hs⟩ := ww_chk hs
            obtain ⟨σ27, e28, hs⟩ := ww_let hs
            refine ww_zast hx hb hW 63 0 (pr_st (hW.rd hgm) (Nat.le_of_ble_eq_true rfl)) rfl hc26 dX3_from_59 (fun H locs hW => ?_)
            have hW : wv g L σ27 s H locs := by rw [e28]; exact hW
            refine lv_iconst (v := 0) hx hb dX3_from_60 (by decide) ?_
            refine lv_istore (lv' := [(6, .int (0 : Int32)), (0, .ref (L 60 0)), (1, .ref (L 50 i1)), (3, .int x3), (4, .int x4), (5, .int x5)]) hx hb dX3_from_61 hl (by decide) rfl (fun ls hl => ?_)
            exact hL63 fu_ σ27 x3 x4 x5 (0 : Int32) _ _ ls hW (lv_sub hl [1, 2, 3, 4, 5, 0] rfl) hs
      intro σ x2 x3 x4 x5 H locs ls hW hl hs
      rw [m_X3_from_L3] at hs
      refine lv_iload hx hb dX3_from_3 (lv_at hl 5 rfl) ?_
      refine lv_bipush (v := 64) hx hb dX3_from_5 (by decide) ?_
      refine lv_icmp_ge (tgt := 33) hx hb dX3_from_7 (by decide) (fun hc29 => ?_) (fun hc29 => ?_)
      · have hs := ww_T hs hc29
        refine lv_aload_n hx hb dX3_from_33 rfl (lv_at hl 0 rfl) ?_
        refine gf_X3_9 hx hb hts hown hW (pr_st (hW.rd hgm) (Nat.le_of_ble_eq_true rfl)) (hW.fl hgm (pr_st (hW.rd hgm) (Nat.le_of_ble_eq_true rfl)) 0 (by decide) rfl (by decide)) dX3_from_34 ?_
        refine lv_iload_n hx hb dX3_from_37 rfl (lv_at hl 2 rfl) ?_
        refine lv_iconst (v := 0) hx hb dX3_from_38 (by decide) ?_
        obtain ⟨hc30, hs⟩ := ww_chk hs
        obtain ⟨σ31, e32, hs⟩ := ww_let hs
        refine ww_iast hx hb hW 61 0 (pr_st (hW.rd hgm) (Nat.le_of_ble_eq_true rfl)) rfl hc30 dX3_from_39 (fun H locs hW => ?_)
        have hW : wv g L σ31 s H locs := by rw [e32]; exact hW
        refine lv_aload_n hx hb dX3_from_40 rfl (lv_at hl 0 rfl) ?_
        obtain ⟨v35, hc33, hs⟩ := ww_bnd hs
        refine ww_ci (va_runV (As := []) (rest := []) ⟨hx, hb, hml, hown, hts⟩ (c_X3_nearest g hgm l L σ31  _ hc33) (cwV 0 hts (lw_V q542 q544 qs3 q113 q545) rfl rfl rfl hd_X3_nearest ⟨(Nat.le_of_ble_eq_true rfl), (Nat.le_of_ble_eq_true rfl)⟩) (ww_preV hW (pr_st (hW.rd hgm) (Nat.le_of_ble_eq_true rfl)) (obv_0 rfl) rfl) rfl rfl hl.1 rfl (lv_room (Nat.le_of_ble_eq_true rfl)) dX3_from_41 ⟨Nat.le_of_ble_eq_true rfl, Nat.le_of_ble_eq_true rfl⟩) hW (fun H locs hW => ?_)
        refine lv_istore (lv' := [(5, .int v35), (0, .ref (L 60 0)), (1, .ref (L 50 i1)), (2, .int x2), (3, .int x3), (4, .int x4)]) hx hb dX3_from_44 hl (by decide) rfl (fun ls hl => ?_)
        exact hL46 fu_ σ31 x3 x4 v35 _ _ ls hW (lv_sub hl [1, 2, 4, 5, 0] rfl) hs
      · have hs := ww_F hs hc29
        refine lv_aload_n hx hb dX3_from_10 rfl (lv_at hl 0 rfl) ?_
        refine gf_X3_9 hx hb hts hown hW (pr_st (hW.rd hgm) (Nat.le_of_ble_eq_true rfl)) (hW.fl hgm (pr_st (hW.rd hgm) (Nat.le_of_ble_eq_true rfl)) 0 (by decide) rfl (by decide)) dX3_from_11 ?_
        refine lv_iload hx hb dX3_from_14 (lv_at hl 5 rfl) ?_
        refine lv_ldc hx hb hown (hts _ q541) dX3_from_16 ?_
        obtain ⟨hc36, hs⟩ := ww_chk hs
        obtain ⟨σ37, e38, hs⟩ := ww_let hs
        refine ww_iast hx hb hW 61 0 (pr_st (hW.rd hgm) (Nat.le_of_ble_eq_true rfl)) rfl hc36 dX3_from_18 (fun H locs hW => ?_)
        have hW : wv g L σ37 s H locs := by rw [e38]; exact hW
        refine lv_aload_n hx hb dX3_from_19 rfl (lv_at hl 0 rfl) ?_
        refine gf_X3_18 hx hb hts hown hW (pr_st (hW.rd hgm) (Nat.le_of_ble_eq_true rfl)) (hW.fl hgm (pr_st (hW.rd hgm) (Nat.le_of_ble_eq_true rfl)) 2 (by decide) rfl (by decide)) dX3_from_20 ?_
        refine lv_iload hx hb dX3_from_23 (lv_at hl 5 rfl) ?_
        refine lv_iconst (v := 0) hx hb dX3_from_25 (by decide) ?_
        obtain ⟨σ39, e40, hs⟩ := ww_let hs
        refine ww_zast hx hb hW 63 0 (pr_st (hW.rd hgm) (Nat.le_of_ble_eq_true rfl)) rfl hc36 dX3_from_26 (fun H locs hW => ?_)
        have hW : wv g L σ39 s H locs := by rw [e40]; exact hW
        refine lv_iinc (v := (x5 + (1 : Int32))) (lv' := [(5, .int (x5 + (1 : Int32))), (0, .ref (L 60 0)), (1, .ref (L 50 i1)), (2, .int x2), (3, .int x3), (4, .int x4)]) hx hb dX3_from_27 hl (k := 5) rfl rfl (by decide) rfl (fun ls hl => ?_)
        refine lv_goto (tgt := 3) hx hb dX3_from_30 (by decide) ?_
        exact ih3 σ39 x2 x3 x4 (x5 + (1 : Int32)) _ _ ls hW (lv_sub hl [1, 2, 3, 4, 5, 0] rfl) hs
  refine lv_iconst (v := 0) hx hb dX3_from_0 (by decide) ?_
  refine lv_istore (lv' := [(5, .int (0 : Int32)), (0, .ref (L 60 0)), (1, .ref (L 50 i1)), (2, .int a2), (3, .int a3), (4, .int a4)]) hx hb dX3_from_1 hl (by decide) rfl (fun ls hl => ?_)
  exact hL3 fu_ σ a2 a3 a4 (0 : Int32) _ _ ls hW (lv_sub hl [1, 2, 3, 4, 5, 0] rfl) hs
set_option maxHeartbeats 4000000 in
theorem c_X3_goes (g : wg_T) (hgm : gm g = true) (l : Launch) (L : ly_T) (σ : st_T) (i1 : Nat) (a2 : Int32) (a3 : Int32) (a4 : Int32) (σ_ : st_T) (hs : m_X3_goes σ i1 a2 a3 a4 = some σ_) : CV g l yX3_goes (ws_ yX3_goes cX3_goes 7 none) 5 132 0 0 [.ref (L 60 0), .ref (L 50 i1), .int a2, .int a3, .int a4] L σ σ_ := by
  refine wbody.met (by decide) (Nat.le_of_ble_eq_true rfl) ?_
  intro p e s m args below meth c ls hx hb hr hml hlocks hts hown hnm hW hl
  have hown : s.vm.findClass RX3 = some m.cls := hown
  have hl : lv_has ls 7 [(0, .ref (L 60 0)), (1, .ref (L 50 i1)), (2, .int a2), (3, .int a3), (4, .int a4)] := hl
  unfold m_X3_goes at hs
  have hL52 : ∀ (n52 : Nat), ∀ (σ : st_T) (x3 : Int32) (x4 : Int32) (H : Heap) (locs : List Loc) (ls : Array Slot), wv g L σ s H locs → lv_has ls 7 [(0, .ref (L 60 0)), (1, .ref (L 50 i1)), (3, .int x3), (4, .int x4)] → (m_X3_goes_L52 i1 n52) σ x3 x4 = some σ_ → W p l e (wrm 5 132 0 0) s m args below meth c H locs 0 0 (MQ below (wQv g L σ_) args s 0 0 (fun q => gz g ≤ q)) (F0 m 52 ls []) := by
    intro n52
    induction n52 with
    | zero => intro σ x3 x4 H locs ls hW hl hs; rw [m_X3_goes_L52] at hs; cases hs
    | succ n52 ih52 =>
      have hL83 : ∀ (n83 : Nat), ∀ (σ : st_T) (x3 : Int32) (x4 : Int32) (x5 : Int32) (x6 : Int32) (H : Heap) (locs : List Loc) (ls : Array Slot), wv g L σ s H locs → lv_has ls 7 [(0, .ref (L 60 0)), (1, .ref (L 50 i1)), (3, .int x3), (4, .int x4), (5, .int x5), (6, .int x6)] → (m_X3_goes_L83 i1 (m_X3_goes_L52 i1 n52) n83) σ x3 x4 x5 x6 = some σ_ → W p l e (wrm 5 132 0 0) s m args below meth c H locs 0 0 (MQ below (wQv g L σ_) args s 0 0 (fun q => gz g ≤ q)) (F0 m 83 ls []) := by
        intro n83
        induction n83 with
        | zero => intro σ x3 x4 x5 x6 H locs ls hW hl hs; rw [m_X3_goes_L83] at hs; cases hs
        | succ n83 ih83 =>
          have hL135 : ∀ (σ : st_T) (x3 : Int32) (x4 : Int32) (x5 : Int32) (x6 : Int32) (H : Heap) (locs : List Loc) (ls : Array Slot), wv g L σ s H locs → lv_has ls 7 [(0, .ref (L 60 0)), (1, .ref (L 50 i1)), (3, .int x3), (4, .int x4), (5, .int x5), (6, .int x6)] → (m_X3_goes_L135 i1 (m_X3_goes_L83 i1 (m_X3_goes_L52 i1 n52) n83)) σ x3 x4 x5 x6 = some σ_ → W p l e (wrm 5 132 0 0) s m args below meth c H locs 0 0 (MQ below (wQv g L σ_) args s 0 0 (fun q => gz g ≤ q)) (F0 m 135 ls []) := by
            intro σ x3 x4 x5 x6 H locs ls hW hl hs
            unfold m_X3_goes_L135 at hs
            refine lv_iinc (v := (x6 + (1 : Int32))) (lv' := [(6, .int (x6 + (1 : Int32))), (0, .ref (L 60 0)), (1, .ref (L 50 i1)), (3, .int x3), (4, .int x4), (5, .int x5)]) hx hb dX3_goes_135 hl (k := 5) rfl rfl (by decide) rfl (fun ls hl => ?_)
            refine lv_goto (tgt := 83) hx hb dX3_goes_138 (by decide) ?_
            exact ih83 σ x3 x4 x5 (x6 + (1 : Int32)) _ _ ls hW (lv_sub hl [1, 2, 3, 4, 5, 0] rfl) hs
          intro σ x3 x4 x5 x6 H locs ls hW hl hs
          rw [m_X3_goes_L83] at hs
          refine lv_aload_n hx hb dX3_goes_83 rfl (lv_at hl 1 rfl) ?_
          refine lv_iload hx hb dX3_goes_84 (lv_at hl 4 rfl) ?_
          refine lv_iload hx hb dX3_goes_86 (lv_at hl 5 rfl) ?_
          obtain ⟨v3, hc1, hs⟩ := ww_bnd hs
          refine ww_ci (va_runSN (As := [.int x5, .int x6]) (rest := [.ref (L 50 i1)]) ⟨hx, hb, hml, hown, hts⟩ (c_X1_next g hgm l L σ x5 x6 _ hc1) ⟨va_cnB 2 hts (lw_meth q509) rfl rfl rfl (hW.nw 25 rfl) (hts _ q111) hd_X1_next.2 ⟨(Nat.le_of_ble_eq_true rfl), (Nat.le_of_ble_eq_true rfl)⟩, hts _ q508, trivial⟩ (ww_preS hW) rfl rfl hl.1 rfl (lv_room (Nat.le_of_ble_eq_true rfl)) dX3_goes_88 ⟨Nat.le_of_ble_eq_true rfl, Nat.le_of_ble_eq_true rfl⟩) hW (fun H locs hW => ?_)
          obtain ⟨v6, hc4, hs⟩ := ww_bnd hs
          obtain ⟨hc7, hs⟩ := ww_chk hs
          refine ww_ci (va_runV (As := [.int v3]) (rest := []) ⟨hx, hb, hml, hown, hts⟩ (c_X2_isOpen g hgm l L σ i1 v3 _ hc4) (cwV 1 hts (lw_V q547 q548 q549 q112 q550) rfl rfl rfl hd_X2_isOpen ⟨(Nat.le_of_ble_eq_true rfl), (Nat.le_of_ble_eq_true rfl)⟩) (ww_preV hW (pr_st (hW.rd hgm) hc7) (obv_0 rfl) rfl) rfl rfl hl.1 rfl (lv_room (Nat.le_of_ble_eq_true rfl)) dX3_goes_91 ⟨Nat.le_of_ble_eq_true rfl, Nat.le_of_ble_eq_true rfl⟩) hW (fun H locs hW => ?_)
          refine lv_if_eq (tgt := 135) hx hb dX3_goes_94 (by decide) (fun hc8 => ?_) (fun hc8 => ?_)
          · have hs := ww_T hs hc8
            exact hL135 σ x3 x4 x5 x6 _ _ ls hW (lv_sub hl [0, 1, 2, 3, 4, 5] rfl) hs
          · have hs := ww_F hs hc8
            refine lv_aload_n hx hb dX3_goes_97 rfl (lv_at hl 0 rfl) ?_
            refine gf_X3_9 hx hb hts hown hW (pr_st (hW.rd hgm) (Nat.le_of_ble_eq_true rfl)) (hW.fl hgm (pr_st (hW.rd hgm) (Nat.le_of_ble_eq_true rfl)) 0 (by decide) rfl (by decide)) dX3_goes_98 ?_
            refine lv_iload hx hb dX3_goes_101 (lv_at hl 4 rfl) ?_
            refine lv_iload hx hb dX3_goes_103 (lv_at hl 5 rfl) ?_
            obtain ⟨v11, hc9, hs⟩ := ww_bnd hs
            refine ww_ci (va_runSN (As := [.int x5, .int x6]) (rest := [.ref (L 61 0)]) ⟨hx, hb, hml, hown, hts⟩ (c_X1_next g hgm l L σ x5 x6 _ hc9) ⟨va_cnB 2 hts (lw_meth q509) rfl rfl rfl (hW.nw 25 rfl) (hts _ q111) hd_X1_next.2 ⟨(Nat.le_of_ble_eq_true rfl), (Nat.le_of_ble_eq_true rfl)⟩, hts _ q508, trivial⟩ (ww_preS hW) rfl rfl hl.1 rfl (lv_room (Nat.le_of_ble_eq_true rfl)) dX3_goes_105 ⟨Nat.le_of_ble_eq_true rfl, Nat.le_of_ble_eq_true rfl⟩) hW (fun H locs hW => ?_)
            obtain ⟨hc12, hs⟩ := ww_chk hs
            refine ww_iald hx hb hW 61 0 (pr_st (hW.rd hgm) (Nat.le_of_ble_eq_true rfl)) rfl hc12 dX3_goes_108 ?_
            refine lv_aload_n hx hb dX3_goes_109 rfl (lv_at hl 1 rfl) ?_
            refine lv_iload hx hb dX3_goes_110 (lv_at hl 4 rfl) ?_
            refine lv_iload hx hb dX3_goes_112 (lv_at hl 4 rfl) ?_
            refine lv_iload hx hb dX3_goes_114 (lv_at hl 5 rfl) ?_
            obtain ⟨v15, hc13, hs⟩ := ww_bnd hs
            refine ww_ci (va_runSN (As := [.int x5, .int x6]) (rest := [.int x5, .ref (L 50 i1), .int (gA_ σ 61 0 v11.toNatClampNeg)]) ⟨hx, hb, hml, hown, hts⟩ (c_X1_next g hgm l L σ x5 x6 _ hc13) ⟨va_cnB 2 hts (lw_meth q509) rfl rfl rfl (hW.nw 25 rfl) (hts _ q111) hd_X1_next.2 ⟨(Nat.le_of_ble_eq_true rfl), (Nat.le_of_ble_eq_true rfl)⟩, hts _ q508, trivial⟩ (ww_preS hW) rfl rfl hl.1 rfl (lv_room (Nat.le_of_ble_eq_true rfl)) dX3_goes_116 ⟨Nat.le_of_ble_eq_true rfl, Nat.le_of_ble_eq_true rfl⟩) hW (fun H locs hW => ?_)
            refine lv_iload hx hb dX3_goes_119 (lv_at hl 3 rfl) ?_
            obtain ⟨v18, hc16, hs⟩ := ww_bnd hs
            refine ww_ci (va_runV (As := [.int x5, .int v15, .int x4]) (rest := [.int (gA_ σ 61 0 v11.toNatClampNeg)]) ⟨hx, hb, hml, hown, hts⟩ (c_X2_step g hgm l L σ i1 x5 v15 x4 _ hc16) (cwV 3 hts (lw_V q551 q552 q553 q112 q554) rfl rfl rfl hd_X2_step ⟨(Nat.le_of_ble_eq_true rfl), (Nat.le_of_ble_eq_true rfl)⟩) (ww_preV hW (pr_st (hW.rd hgm) hc7) (obv_0 rfl) rfl) rfl rfl hl.1 rfl (lv_room (Nat.le_of_ble_eq_true rfl)) dX3_goes_121 ⟨Nat.le_of_ble_eq_true rfl, Nat.le_of_ble_eq_true rfl⟩) hW (fun H locs hW => ?_)
            refine lv_iadd hx hb dX3_goes_124 ?_
            refine lv_aload_n hx hb dX3_goes_125 rfl (lv_at hl 0 rfl) ?_
            refine gf_X3_9 hx hb hts hown hW (pr_st (hW.rd hgm) (Nat.le_of_ble_eq_true rfl)) (hW.fl hgm (pr_st (hW.rd hgm) (Nat.le_of_ble_eq_true rfl)) 0 (by decide) rfl (by decide)) dX3_goes_126 ?_
            refine lv_iload hx hb dX3_goes_129 (lv_at hl 4 rfl) ?_
            obtain ⟨hc19, hs⟩ := ww_chk hs
            refine ww_iald hx hb hW 61 0 (pr_st (hW.rd hgm) (Nat.le_of_ble_eq_true rfl)) rfl hc19 dX3_goes_131 ?_
            refine lv_icmp_eq (tgt := 141) hx hb dX3_goes_132 (by decide) (fun hc20 => ?_) (fun hc20 => ?_)
            · have hs := ww_T hs hc20
              refine lv_aload_n hx hb dX3_goes_141 rfl (lv_at hl 0 rfl) ?_
              refine gf_X3_15 hx hb hts hown hW (pr_st (hW.rd hgm) (Nat.le_of_ble_eq_true rfl)) (hW.fl hgm (pr_st (hW.rd hgm) (Nat.le_of_ble_eq_true rfl)) 1 (by decide) rfl (by decide)) dX3_goes_142 ?_
              refine lv_aload_n hx hb dX3_goes_145 rfl (lv_at hl 0 rfl) ?_
              refine lv_dup hx hb dX3_goes_146 rfl ?_
              refine gf_X3_46 hx hb hts hown hW (pr_st (hW.rd hgm) (Nat.le_of_ble_eq_true rfl)) dX3_goes_147 ?_
              refine lv_dup_x1 hx hb dX3_goes_150 rfl rfl ?_
              refine lv_iconst (v := 1) hx hb dX3_goes_151 (by decide) ?_
              refine lv_iadd hx hb dX3_goes_152 ?_
              obtain ⟨σ21, e22, hs⟩ := ww_let hs
              refine pf_X3_46 hx hb hts hown hW (pr_st (hW.rd hgm) (Nat.le_of_ble_eq_true rfl)) dX3_goes_153 (fun H locs hW => ?_)
              have hW : wv g L σ21 s H locs := by rw [e22]; exact hW
              refine lv_iload hx hb dX3_goes_156 (lv_at hl 4 rfl) ?_
              refine lv_iload hx hb dX3_goes_158 (lv_at hl 5 rfl) ?_
              obtain ⟨v25, hc23, hs⟩ := ww_bnd hs
              refine ww_ci (va_runSN (As := [.int x5, .int x6]) (rest := [.int (gF_ σ 60 3 0), .ref (L 62 0)]) ⟨hx, hb, hml, hown, hts⟩ (c_X1_next g hgm l L σ21 x5 x6 _ hc23) ⟨va_cnB 2 hts (lw_meth q509) rfl rfl rfl (hW.nw 25 rfl) (hts _ q111) hd_X1_next.2 ⟨(Nat.le_of_ble_eq_true rfl), (Nat.le_of_ble_eq_true rfl)⟩, hts _ q508, trivial⟩ (ww_preS hW) rfl rfl hl.1 rfl (lv_room (Nat.le_of_ble_eq_true rfl)) dX3_goes_160 ⟨Nat.le_of_ble_eq_true rfl, Nat.le_of_ble_eq_true rfl⟩) hW (fun H locs hW => ?_)
              obtain ⟨hc26, hs⟩ := ww_chk hs
              obtain ⟨σ27, e28, hs⟩ := ww_let hs
              refine ww_iast hx hb hW 62 0 (pr_st (hW.rd hgm) (Nat.le_of_ble_eq_true rfl)) rfl hc26 dX3_goes_163 (fun H locs hW => ?_)
              have hW : wv g L σ27 s H locs := by rw [e28]; exact hW
              refine lv_goto (tgt := 52) hx hb dX3_goes_164 (by decide) ?_
              exact ih52 σ27 x3 x4 _ _ ls hW (lv_sub hl [0, 1, 2, 3] rfl) hs
            · have hs := ww_F hs hc20
              exact hL135 σ x3 x4 x5 x6 _ _ ls hW (lv_sub hl [0, 1, 2, 3, 4, 5] rfl) hs
      intro σ x3 x4 H locs ls hW hl hs
      rw [m_X3_goes_L52] at hs
      refine lv_aload_n hx hb dX3_goes_52 rfl (lv_at hl 0 rfl) ?_
      refine gf_X3_15 hx hb hts hown hW (pr_st (hW.rd hgm) (Nat.le_of_ble_eq_true rfl)) (hW.fl hgm (pr_st (hW.rd hgm) (Nat.le_of_ble_eq_true rfl)) 1 (by decide) rfl (by decide)) dX3_goes_53 ?_
      refine lv_aload_n hx hb dX3_goes_56 rfl (lv_at hl 0 rfl) ?_
      refine gf_X3_46 hx hb hts hown hW (pr_st (hW.rd hgm) (Nat.le_of_ble_eq_true rfl)) dX3_goes_57 ?_
      refine lv_iconst (v := 1) hx hb dX3_goes_60 (by decide) ?_
      refine lv_isub hx hb dX3_goes_61 ?_
      obtain ⟨hc29, hs⟩ := ww_chk hs
      refine ww_iald hx hb hW 62 0 (pr_st (hW.rd hgm) (Nat.le_of_ble_eq_true rfl)) rfl hc29 dX3_goes_62 ?_
      refine lv_iload_n hx hb dX3_goes_63 rfl (lv_at hl 2 rfl) ?_
      refine lv_icmp_eq (tgt := 167) hx hb dX3_goes_64 (by decide) (fun hc30 => ?_) (fun hc30 => ?_)
      · have hs := ww_T hs hc30
        have hs := ww_S hs
        exact we_v hx hb hr hlocks hW hs (Nat.le_of_ble_eq_true rfl) (Nat.le_of_ble_eq_true rfl) dX3_goes_167
      · have hs := ww_F hs hc30
        refine lv_aload_n hx hb dX3_goes_67 rfl (lv_at hl 0 rfl) ?_
        refine gf_X3_15 hx hb hts hown hW (pr_st (hW.rd hgm) (Nat.le_of_ble_eq_true rfl)) (hW.fl hgm (pr_st (hW.rd hgm) (Nat.le_of_ble_eq_true rfl)) 1 (by decide) rfl (by decide)) dX3_goes_68 ?_
        refine lv_aload_n hx hb dX3_goes_71 rfl (lv_at hl 0 rfl) ?_
        refine gf_X3_46 hx hb hts hown hW (pr_st (hW.rd hgm) (Nat.le_of_ble_eq_true rfl)) dX3_goes_72 ?_
        refine lv_iconst (v := 1) hx hb dX3_goes_75 (by decide) ?_
        refine lv_isub hx hb dX3_goes_76 ?_
        refine ww_iald hx hb hW 62 0 (pr_st (hW.rd hgm) (Nat.le_of_ble_eq_true rfl)) rfl hc29 dX3_goes_77 ?_
        refine lv_istore (lv' := [(5, .int (gA_ σ 62 0 ((gF_ σ 60 3 0) - (1 : Int32)).toNatClampNeg)), (0, .ref (L 60 0)), (1, .ref (L 50 i1)), (3, .int x3), (4, .int x4)]) hx hb dX3_goes_78 hl (by decide) rfl (fun ls hl => ?_)
        refine lv_iconst (v := 0) hx hb dX3_goes_80 (by decide) ?_
        refine lv_istore (lv' := [(6, .int (0 : Int32)), (5, .int (gA_ σ 62 0 ((gF_ σ 60 3 0) - (1 : Int32)).toNatClampNeg)), (0, .ref (L 60 0)), (1, .ref (L 50 i1)), (3, .int x3), (4, .int x4)]) hx hb dX3_goes_81 hl (by decide) rfl (fun ls hl => ?_)
        exact hL83 fu_ σ x3 x4 (gA_ σ 62 0 ((gF_ σ 60 3 0) - (1 : Int32)).toNatClampNeg) (0 : Int32) _ _ ls hW (lv_sub hl [2, 3, 4, 5, 1, 0] rfl) hs
  refine lv_aload_n hx hb dX3_goes_0 rfl (lv_at hl 0 rfl) ?_
  refine lv_iconst (v := 0) hx hb dX3_goes_1 (by decide) ?_
  obtain ⟨σ31, e32, hs⟩ := ww_let hs
  refine pf_X3_46 hx hb hts hown hW (pr_st (hW.rd hgm) (Nat.le_of_ble_eq_true rfl)) dX3_goes_2 (fun H locs hW => ?_)
  have hW : wv g L σ31 s H locs := by rw [e32]; exact hW
  refine lv_aload_n hx hb dX3_goes_5 rfl (lv_at hl 1 rfl) ?_
  refine lv_iload_n hx hb dX3_goes_6 rfl (lv_at hl 3 rfl) ?_
  obtain ⟨v35, hc33, hs⟩ := ww_bnd hs
  obtain ⟨hc36, hs⟩ := ww_chk hs
  refine ww_ci (va_runV (As := [.int a3]) (rest := []) ⟨hx, hb, hml, hown, hts⟩ (c_X2_isOpen g hgm l L σ31 i1 a3 _ hc33) (cwV 1 hts (lw_V q547 q548 q549 q112 q550) rfl rfl rfl hd_X2_isOpen ⟨(Nat.le_of_ble_eq_true rfl), (Nat.le_of_ble_eq_true rfl)⟩) (ww_preV hW (pr_st (hW.rd hgm) hc36) (obv_0 rfl) rfl) rfl rfl hl.1 rfl (lv_room (Nat.le_of_ble_eq_true rfl)) dX3_goes_7 ⟨Nat.le_of_ble_eq_true rfl, Nat.le_of_ble_eq_true rfl⟩) hW (fun H locs hW => ?_)
  refine lv_if_ne (tgt := 14) hx hb dX3_goes_10 (by decide) (fun hc37 => ?_) (fun hc37 => ?_)
  · have hs := ww_F hs hc37
    refine lv_aload_n hx hb dX3_goes_14 rfl (lv_at hl 0 rfl) ?_
    refine lv_aload_n hx hb dX3_goes_15 rfl (lv_at hl 1 rfl) ?_
    refine lv_iload_n hx hb dX3_goes_16 rfl (lv_at hl 3 rfl) ?_
    refine lv_iload hx hb dX3_goes_17 (lv_at hl 4 rfl) ?_
    refine lv_iconst (v := 1) hx hb dX3_goes_19 (by decide) ?_
    obtain ⟨σ40, hc38, hs⟩ := ww_bnd hs
    refine ww_cv (va_runV (As := [.ref (L 50 i1), .int a3, .int a4, .int (1 : Int32)]) (rest := []) ⟨hx, hb, hml, hown, hts⟩ (c_X3_from g hgm l L σ31 i1 a3 a4 (1 : Int32) _ hc38) (cwV 4 hts (lw_V q578 q538 q539 q113 q540) rfl rfl rfl hd_X3_from ⟨(Nat.le_of_ble_eq_true rfl), (Nat.le_of_ble_eq_true rfl)⟩) (ww_preV hW (pr_st (hW.rd hgm) (Nat.le_of_ble_eq_true rfl)) (obv_0 rfl) rfl) rfl rfl hl.1 rfl (lv_room (Nat.le_of_ble_eq_true rfl)) dX3_goes_20 ⟨Nat.le_of_ble_eq_true rfl, Nat.le_of_ble_eq_true rfl⟩) hW (fun H locs hW => ?_)
    refine lv_aload_n hx hb dX3_goes_23 rfl (lv_at hl 0 rfl) ?_
    refine gf_X3_9 hx hb hts hown hW (pr_st (hW.rd hgm) (Nat.le_of_ble_eq_true rfl)) (hW.fl hgm (pr_st (hW.rd hgm) (Nat.le_of_ble_eq_true rfl)) 0 (by decide) rfl (by decide)) dX3_goes_24 ?_
    refine lv_iload_n hx hb dX3_goes_27 rfl (lv_at hl 2 rfl) ?_
    obtain ⟨hc41, hs⟩ := ww_chk hs
    refine ww_iald hx hb hW 61 0 (pr_st (hW.rd hgm) (Nat.le_of_ble_eq_true rfl)) rfl hc41 dX3_goes_28 ?_
    refine lv_ldc hx hb hown (hts _ q541) dX3_goes_29 ?_
    refine lv_icmp_ne (tgt := 35) hx hb dX3_goes_31 (by decide) (fun hc42 => ?_) (fun hc42 => ?_)
    · have hs := ww_F hs hc42
      refine lv_aload_n hx hb dX3_goes_35 rfl (lv_at hl 0 rfl) ?_
      refine gf_X3_15 hx hb hts hown hW (pr_st (hW.rd hgm) (Nat.le_of_ble_eq_true rfl)) (hW.fl hgm (pr_st (hW.rd hgm) (Nat.le_of_ble_eq_true rfl)) 1 (by decide) rfl (by decide)) dX3_goes_36 ?_
      refine lv_aload_n hx hb dX3_goes_39 rfl (lv_at hl 0 rfl) ?_
      refine lv_dup hx hb dX3_goes_40 rfl ?_
      refine gf_X3_46 hx hb hts hown hW (pr_st (hW.rd hgm) (Nat.le_of_ble_eq_true rfl)) dX3_goes_41 ?_
      refine lv_dup_x1 hx hb dX3_goes_44 rfl rfl ?_
      refine lv_iconst (v := 1) hx hb dX3_goes_45 (by decide) ?_
      refine lv_iadd hx hb dX3_goes_46 ?_
      obtain ⟨σ43, e44, hs⟩ := ww_let hs
      refine pf_X3_46 hx hb hts hown hW (pr_st (hW.rd hgm) (Nat.le_of_ble_eq_true rfl)) dX3_goes_47 (fun H locs hW => ?_)
      have hW : wv g L σ43 s H locs := by rw [e44]; exact hW
      refine lv_iload_n hx hb dX3_goes_50 rfl (lv_at hl 2 rfl) ?_
      obtain ⟨hc45, hs⟩ := ww_chk hs
      obtain ⟨σ46, e47, hs⟩ := ww_let hs
      refine ww_iast hx hb hW 62 0 (pr_st (hW.rd hgm) (Nat.le_of_ble_eq_true rfl)) rfl hc45 dX3_goes_51 (fun H locs hW => ?_)
      have hW : wv g L σ46 s H locs := by rw [e47]; exact hW
      exact hL52 fu_ σ46 a3 a4 _ _ ls hW (lv_sub hl [0, 1, 3, 4] rfl) hs
    · have hs := ww_T hs hc42
      have hs := ww_S hs
      exact we_v hx hb hr hlocks hW hs (Nat.le_of_ble_eq_true rfl) (Nat.le_of_ble_eq_true rfl) dX3_goes_34
  · have hs := ww_T hs hc37
    have hs := ww_S hs
    exact we_v hx hb hr hlocks hW hs (Nat.le_of_ble_eq_true rfl) (Nat.le_of_ble_eq_true rfl) dX3_goes_13
set_option maxHeartbeats 4000000 in
theorem c_X1_goes (g : wg_T) (hgm : gm g = true) (l : Launch) (L : ly_T) (σ : st_T) (i1 : Nat) (i2 : Nat) (a3 : Int32) (r_ : Int32) (σ_ : st_T) (hs : m_X1_goes σ i1 i2 a3 = some (r_, σ_)) : CI g l yX1_goes (ws_ yX1_goes cX1_goes 8 (some .int)) 6 158 0 0 [.ref (L 1 0), .ref (L 50 i1), .ref (L 80 i2), .int a3] L σ r_ σ_ := by
  refine wbody.met (by decide) (Nat.le_of_ble_eq_true rfl) ?_
  intro p e s m args below meth c ls hx hb hr hml hlocks hts hown hnm hW hl
  have hown : s.vm.findClass RX1 = some m.cls := hown
  have hl : lv_has ls 8 [(0, .ref (L 1 0)), (1, .ref (L 50 i1)), (2, .ref (L 80 i2)), (3, .int a3)] := hl
  unfold m_X1_goes at hs
  have hL29 : ∀ (n29 : Nat), ∀ (σ : st_T) (x3 : Int32) (x4 : Int32) (x5 : Int32) (x6 : Int32) (H : Heap) (locs : List Loc) (ls : Array Slot), wv g L σ s H locs → lv_has ls 8 [(0, .ref (L 1 0)), (1, .ref (L 50 i1)), (2, .ref (L 80 i2)), (3, .int x3), (4, .int x4), (5, .int x5), (6, .int x6)] → (m_X1_goes_L29 i1 i2 n29) σ x3 x4 x5 x6 = some (r_, σ_) → W p l e (wrm 6 158 0 0) s m args below meth c H locs 0 0 (MQ below (wQi g L r_ σ_) args s 0 0 (fun q => gz g ≤ q)) (F0 m 29 ls []) := by
    intro n29
    induction n29 with
    | zero => intro σ x3 x4 x5 x6 H locs ls hW hl hs; rw [m_X1_goes_L29] at hs; cases hs
    | succ n29 ih29 =>
      have hL166 : ∀ (n166 : Nat), ∀ (σ : st_T) (x5 : Int32) (x6 : Int32) (x7 : Int32) (H : Heap) (locs : List Loc) (ls : Array Slot), wv g L σ s H locs → lv_has ls 8 [(0, .ref (L 1 0)), (1, .ref (L 50 i1)), (2, .ref (L 80 i2)), (5, .int x5), (6, .int x6), (7, .int x7)] → (m_X1_goes_L166 i1 i2 n166) σ x5 x6 x7 = some (r_, σ_) → W p l e (wrm 6 158 0 0) s m args below meth c H locs 0 0 (MQ below (wQi g L r_ σ_) args s 0 0 (fun q => gz g ≤ q)) (F0 m 166 ls []) := by
        intro n166
        induction n166 with
        | zero => intro σ x5 x6 x7 H locs ls hW hl hs; rw [m_X1_goes_L166] at hs; cases hs
        | succ n166 ih166 =>
          have hL240 : ∀ (σ : st_T) (x5 : Int32) (x6 : Int32) (x7 : Int32) (H : Heap) (locs : List Loc) (ls : Array Slot), wv g L σ s H locs → lv_has ls 8 [(0, .ref (L 1 0)), (1, .ref (L 50 i1)), (2, .ref (L 80 i2)), (5, .int x5), (6, .int x6), (7, .int x7)] → (m_X1_goes_L240 i1 i2 (m_X1_goes_L166 i1 i2 n166)) σ x5 x6 x7 = some (r_, σ_) → W p l e (wrm 6 158 0 0) s m args below meth c H locs 0 0 (MQ below (wQi g L r_ σ_) args s 0 0 (fun q => gz g ≤ q)) (F0 m 240 ls []) := by
            intro σ x5 x6 x7 H locs ls hW hl hs
            unfold m_X1_goes_L240 at hs
            refine lv_iinc (v := (x7 + (1 : Int32))) (lv' := [(7, .int (x7 + (1 : Int32))), (0, .ref (L 1 0)), (1, .ref (L 50 i1)), (2, .ref (L 80 i2)), (5, .int x5), (6, .int x6)]) hx hb dX1_goes_240 hl (k := 5) rfl rfl (by decide) rfl (fun ls hl => ?_)
            refine lv_goto (tgt := 166) hx hb dX1_goes_243 (by decide) ?_
            exact ih166 σ x5 x6 (x7 + (1 : Int32)) _ _ ls hW (lv_sub hl [1, 2, 3, 4, 5, 0] rfl) hs
          intro σ x5 x6 x7 H locs ls hW hl hs
          rw [m_X1_goes_L166] at hs
          refine lv_iload hx hb dX1_goes_166 (lv_at hl 5 rfl) ?_
          refine lv_aload_n hx hb dX1_goes_168 rfl (lv_at hl 0 rfl) ?_
          refine gf_X1_57 hx hb hts hown hW (pr_st (hW.rd hgm) (Nat.le_of_ble_eq_true rfl)) (hW.fl hgm (pr_st (hW.rd hgm) (Nat.le_of_ble_eq_true rfl)) 4 (by decide) rfl (by decide)) dX1_goes_169 ?_
          refine gf_X1_287 hx hb hts hown hW (pr_st (hW.rd hgm) (Nat.le_of_ble_eq_true rfl)) dX1_goes_172 ?_
          refine lv_icmp_ge (tgt := 246) hx hb dX1_goes_175 (by decide) (fun hc1 => ?_) (fun hc1 => ?_)
          · have hs := ww_T hs hc1
            refine lv_iload hx hb dX1_goes_246 (lv_at hl 4 rfl) ?_
            refine lv_aload_n hx hb dX1_goes_248 rfl (lv_at hl 0 rfl) ?_
            refine lv_aload_n hx hb dX1_goes_249 rfl (lv_at hl 1 rfl) ?_
            refine lv_iload hx hb dX1_goes_250 (lv_at hl 3 rfl) ?_
            refine lv_aload_n hx hb dX1_goes_252 rfl (lv_at hl 2 rfl) ?_
            obtain ⟨hc2, hs⟩ := ww_chk hs
            refine gf_X1_308 hx hb hts hown hW (pr_dy hc2 rfl rfl) dX1_goes_253 ?_
            obtain ⟨v5, σ6, hc3, hs⟩ := ww_bn2 hs
            refine ww_ci (va_runV (As := [.ref (L 50 i1), .int x5, .int (gF_ σ 80 1 i2)]) (rest := [.int x6]) ⟨hx, hb, hml, hown, hts⟩ (c_X1_harms g hgm l L σ i1 x5 (gF_ σ 80 1 i2) _ _ hc3) (cwV 3 hts (lw_V q583 q585 qs4 q111 q586) rfl rfl rfl hd_X1_harms ⟨(Nat.le_of_ble_eq_true rfl), (Nat.le_of_ble_eq_true rfl)⟩) (ww_preV hW (pr_st (hW.rd hgm) (Nat.le_of_ble_eq_true rfl)) (obv_0 rfl) rfl) rfl rfl hl.1 rfl (lv_room (Nat.le_of_ble_eq_true rfl)) dX1_goes_256 ⟨Nat.le_of_ble_eq_true rfl, Nat.le_of_ble_eq_true rfl⟩) hW (fun H locs hW => ?_)
            refine lv_iadd hx hb dX1_goes_259 ?_
            have hs := ww_S hs
            exact we_i hx hb hr hlocks hW (congrArg Prod.fst hs) (congrArg Prod.snd hs) (Nat.le_of_ble_eq_true rfl) (Nat.le_of_ble_eq_true rfl) dX1_goes_260
          · have hs := ww_F hs hc1
            refine lv_aload_n hx hb dX1_goes_178 rfl (lv_at hl 1 rfl) ?_
            refine lv_aload_n hx hb dX1_goes_179 rfl (lv_at hl 0 rfl) ?_
            refine gf_X1_57 hx hb hts hown hW (pr_st (hW.rd hgm) (Nat.le_of_ble_eq_true rfl)) (hW.fl hgm (pr_st (hW.rd hgm) (Nat.le_of_ble_eq_true rfl)) 4 (by decide) rfl (by decide)) dX1_goes_180 ?_
            refine gf_X1_290 hx hb hts hown hW (pr_st (hW.rd hgm) (Nat.le_of_ble_eq_true rfl)) (hW.fl hgm (pr_st (hW.rd hgm) (Nat.le_of_ble_eq_true rfl)) 1 (by decide) rfl (by decide)) dX1_goes_183 ?_
            refine lv_iload hx hb dX1_goes_186 (lv_at hl 5 rfl) ?_
            refine lv_iconst (v := 1) hx hb dX1_goes_188 (by decide) ?_
            refine lv_isub hx hb dX1_goes_189 ?_
            obtain ⟨hc7, hs⟩ := ww_chk hs
            refine ww_iald hx hb hW 62 0 (pr_st (hW.rd hgm) (Nat.le_of_ble_eq_true rfl)) rfl hc7 dX1_goes_190 ?_
            refine lv_aload_n hx hb dX1_goes_191 rfl (lv_at hl 0 rfl) ?_
            refine gf_X1_57 hx hb hts hown hW (pr_st (hW.rd hgm) (Nat.le_of_ble_eq_true rfl)) (hW.fl hgm (pr_st (hW.rd hgm) (Nat.le_of_ble_eq_true rfl)) 4 (by decide) rfl (by decide)) dX1_goes_192 ?_
            refine gf_X1_290 hx hb hts hown hW (pr_st (hW.rd hgm) (Nat.le_of_ble_eq_true rfl)) (hW.fl hgm (pr_st (hW.rd hgm) (Nat.le_of_ble_eq_true rfl)) 1 (by decide) rfl (by decide)) dX1_goes_195 ?_
            refine lv_iload hx hb dX1_goes_198 (lv_at hl 5 rfl) ?_
            obtain ⟨hc8, hs⟩ := ww_chk hs
            refine ww_iald hx hb hW 62 0 (pr_st (hW.rd hgm) (Nat.le_of_ble_eq_true rfl)) rfl hc8 dX1_goes_200 ?_
            refine lv_iconst (v := 0) hx hb dX1_goes_201 (by decide) ?_
            obtain ⟨σ11, hc9, hs⟩ := ww_bnd hs
            obtain ⟨hc12, hs⟩ := ww_chk hs
            refine ww_cv (va_runV (As := [.int (gA_ σ 62 0 (x7 - (1 : Int32)).toNatClampNeg), .int (gA_ σ 62 0 x7.toNatClampNeg), .int (0 : Int32)]) (rest := []) ⟨hx, hb, hml, hown, hts⟩ (c_X2_fence_2 g hgm l L σ i1 (gA_ σ 62 0 (x7 - (1 : Int32)).toNatClampNeg) (gA_ σ 62 0 x7.toNatClampNeg) (0 : Int32) _ hc9) (cwV 3 hts (lw_V q579 q580 q581 q112 q582) rfl rfl rfl hd_X2_fence_2 ⟨(Nat.le_of_ble_eq_true rfl), (Nat.le_of_ble_eq_true rfl)⟩) (ww_preV hW (pr_st (hW.rd hgm) hc12) (obv_0 rfl) rfl) rfl rfl hl.1 rfl (lv_room (Nat.le_of_ble_eq_true rfl)) dX1_goes_202 ⟨Nat.le_of_ble_eq_true rfl, Nat.le_of_ble_eq_true rfl⟩) hW (fun H locs hW => ?_)
            refine lv_iload hx hb dX1_goes_205 (lv_at hl 5 rfl) ?_
            refine lv_aload_n hx hb dX1_goes_207 rfl (lv_at hl 0 rfl) ?_
            refine gf_X1_57 hx hb hts hown hW (pr_st (hW.rd hgm) (Nat.le_of_ble_eq_true rfl)) (hW.fl hgm (pr_st (hW.rd hgm) (Nat.le_of_ble_eq_true rfl)) 4 (by decide) rfl (by decide)) dX1_goes_208 ?_
            refine gf_X1_287 hx hb hts hown hW (pr_st (hW.rd hgm) (Nat.le_of_ble_eq_true rfl)) dX1_goes_211 ?_
            refine lv_iconst (v := 1) hx hb dX1_goes_214 (by decide) ?_
            refine lv_isub hx hb dX1_goes_215 ?_
            refine lv_icmp_ge (tgt := 240) hx hb dX1_goes_216 (by decide) (fun hc13 => ?_) (fun hc13 => ?_)
            · have hs := ww_T hs hc13
              exact hL240 σ11 x5 x6 x7 _ _ ls hW (lv_sub hl [0, 1, 2, 3, 4, 5] rfl) hs
            · have hs := ww_F hs hc13
              refine lv_iload hx hb dX1_goes_219 (lv_at hl 4 rfl) ?_
              refine lv_aload_n hx hb dX1_goes_221 rfl (lv_at hl 0 rfl) ?_
              refine lv_aload_n hx hb dX1_goes_222 rfl (lv_at hl 1 rfl) ?_
              refine lv_aload_n hx hb dX1_goes_223 rfl (lv_at hl 0 rfl) ?_
              refine gf_X1_57 hx hb hts hown hW (pr_st (hW.rd hgm) (Nat.le_of_ble_eq_true rfl)) (hW.fl hgm (pr_st (hW.rd hgm) (Nat.le_of_ble_eq_true rfl)) 4 (by decide) rfl (by decide)) dX1_goes_224 ?_
              refine gf_X1_290 hx hb hts hown hW (pr_st (hW.rd hgm) (Nat.le_of_ble_eq_true rfl)) (hW.fl hgm (pr_st (hW.rd hgm) (Nat.le_of_ble_eq_true rfl)) 1 (by decide) rfl (by decide)) dX1_goes_227 ?_
              refine lv_iload hx hb dX1_goes_230 (lv_at hl 5 rfl) ?_
              refine ww_iald hx hb hW 62 0 (pr_st (hW.rd hgm) (Nat.le_of_ble_eq_true rfl)) rfl hc8 dX1_goes_232 ?_
              refine lv_iconst (v := 5) hx hb dX1_goes_233 (by decide) ?_
              obtain ⟨v16, σ17, hc14, hs⟩ := ww_bn2 hs
              refine ww_ci (va_runV (As := [.ref (L 50 i1), .int (gA_ σ11 62 0 x7.toNatClampNeg), .int (5 : Int32)]) (rest := [.int x6]) ⟨hx, hb, hml, hown, hts⟩ (c_X1_harms g hgm l L σ11 i1 (gA_ σ11 62 0 x7.toNatClampNeg) (5 : Int32) _ _ hc14) (cwV 3 hts (lw_V q583 q585 qs4 q111 q586) rfl rfl rfl hd_X1_harms ⟨(Nat.le_of_ble_eq_true rfl), (Nat.le_of_ble_eq_true rfl)⟩) (ww_preV hW (pr_st (hW.rd hgm) (Nat.le_of_ble_eq_true rfl)) (obv_0 rfl) rfl) rfl rfl hl.1 rfl (lv_room (Nat.le_of_ble_eq_true rfl)) dX1_goes_234 ⟨Nat.le_of_ble_eq_true rfl, Nat.le_of_ble_eq_true rfl⟩) hW (fun H locs hW => ?_)
              refine lv_iadd hx hb dX1_goes_237 ?_
              refine lv_istore (lv' := [(6, .int (x6 + v16)), (0, .ref (L 1 0)), (1, .ref (L 50 i1)), (2, .ref (L 80 i2)), (5, .int x5), (7, .int x7)]) hx hb dX1_goes_238 hl (by decide) rfl (fun ls hl => ?_)
              exact hL240 σ17 x5 (x6 + v16) x7 _ _ ls hW (lv_sub hl [1, 2, 3, 4, 0, 5] rfl) hs
      have hL125 : ∀ (σ : st_T) (x3 : Int32) (x4 : Int32) (x5 : Int32) (x6 : Int32) (H : Heap) (locs : List Loc) (ls : Array Slot), wv g L σ s H locs → lv_has ls 8 [(0, .ref (L 1 0)), (1, .ref (L 50 i1)), (2, .ref (L 80 i2)), (3, .int x3), (4, .int x4), (5, .int x5), (6, .int x6)] → (m_X1_goes_L125 i1 i2 (m_X1_goes_L29 i1 i2 n29)) σ x3 x4 x5 x6 = some (r_, σ_) → W p l e (wrm 6 158 0 0) s m args below meth c H locs 0 0 (MQ below (wQi g L r_ σ_) args s 0 0 (fun q => gz g ≤ q)) (F0 m 125 ls []) := by
        intro σ x3 x4 x5 x6 H locs ls hW hl hs
        unfold m_X1_goes_L125 at hs
        refine lv_iinc (v := (x6 + (1 : Int32))) (lv' := [(6, .int (x6 + (1 : Int32))), (0, .ref (L 1 0)), (1, .ref (L 50 i1)), (2, .ref (L 80 i2)), (3, .int x3), (4, .int x4), (5, .int x5)]) hx hb dX1_goes_125 hl (k := 6) rfl rfl (by decide) rfl (fun ls hl => ?_)
        refine lv_goto (tgt := 29) hx hb dX1_goes_128 (by decide) ?_
        exact ih29 σ x3 x4 x5 (x6 + (1 : Int32)) _ _ ls hW (lv_sub hl [1, 2, 3, 4, 5, 6, 0] rfl) hs
      intro σ x3 x4 x5 x6 H locs ls hW hl hs
      rw [m_X1_goes_L29] at hs
      refine lv_iload hx hb dX1_goes_29 (lv_at hl 6 rfl) ?_
      refine lv_bipush (v := 64) hx hb dX1_goes_31 (by decide) ?_
      refine lv_icmp_ge (tgt := 131) hx hb dX1_goes_33 (by decide) (fun hc18 => ?_) (fun hc18 => ?_)
      · have hs := ww_T hs hc18
        refine lv_iload hx hb dX1_goes_131 (lv_at hl 5 rfl) ?_
        refine lv_iconst (v := (-1)) hx hb dX1_goes_133 (by decide) ?_
        refine lv_icmp_ne (tgt := 139) hx hb dX1_goes_134 (by decide) (fun hc19 => ?_) (fun hc19 => ?_)
        · have hs := ww_F hs hc19
          refine lv_aload_n hx hb dX1_goes_139 rfl (lv_at hl 0 rfl) ?_
          refine gf_X1_57 hx hb hts hown hW (pr_st (hW.rd hgm) (Nat.le_of_ble_eq_true rfl)) (hW.fl hgm (pr_st (hW.rd hgm) (Nat.le_of_ble_eq_true rfl)) 4 (by decide) rfl (by decide)) dX1_goes_140 ?_
          refine lv_aload_n hx hb dX1_goes_143 rfl (lv_at hl 1 rfl) ?_
          refine lv_aload_n hx hb dX1_goes_144 rfl (lv_at hl 2 rfl) ?_
          obtain ⟨hc20, hs⟩ := ww_chk hs
          refine gf_X1_199 hx hb hts hown hW (pr_dy hc20 rfl rfl) dX1_goes_145 ?_
          refine lv_iload hx hb dX1_goes_148 (lv_at hl 5 rfl) ?_
          refine lv_aload_n hx hb dX1_goes_150 rfl (lv_at hl 0 rfl) ?_
          refine gf_X1_156 hx hb hts hown hW (pr_st (hW.rd hgm) (Nat.le_of_ble_eq_true rfl)) (hW.fl hgm (pr_st (hW.rd hgm) (Nat.le_of_ble_eq_true rfl)) 31 (by decide) rfl (by decide)) dX1_goes_151 ?_
          obtain ⟨hc21, hs⟩ := ww_chk hs
          refine gf_X1_272 hx hb hts hown hW (pr_dy hc21 rfl rfl) dX1_goes_154 ?_
          obtain ⟨σ24, hc22, hs⟩ := ww_bnd hs
          refine ww_cv (va_runV (As := [.ref (L 50 i1), .int (gF_ σ 80 0 i2), .int x5, .int (gF_ σ 87 3 (gP_ σ 1 31 0))]) (rest := []) ⟨hx, hb, hml, hown, hts⟩ (c_X3_goes g hgm l L σ i1 (gF_ σ 80 0 i2) x5 (gF_ σ 87 3 (gP_ σ 1 31 0)) _ hc22) (cwV 4 hts (lw_V q574 q575 q576 q113 q577) rfl rfl rfl hd_X3_goes ⟨(Nat.le_of_ble_eq_true rfl), (Nat.le_of_ble_eq_true rfl)⟩) (ww_preV hW (pr_st (hW.rd hgm) (Nat.le_of_ble_eq_true rfl)) (obv_0 rfl) rfl) rfl rfl hl.1 rfl (lv_room (Nat.le_of_ble_eq_true rfl)) dX1_goes_157 ⟨Nat.le_of_ble_eq_true rfl, Nat.le_of_ble_eq_true rfl⟩) hW (fun H locs hW => ?_)
          refine lv_iconst (v := 0) hx hb dX1_goes_160 (by decide) ?_
          refine lv_istore (lv' := [(6, .int (0 : Int32)), (0, .ref (L 1 0)), (1, .ref (L 50 i1)), (2, .ref (L 80 i2)), (3, .int x3), (4, .int x4), (5, .int x5)]) hx hb dX1_goes_161 hl (by decide) rfl (fun ls hl => ?_)
          refine lv_iconst (v := 1) hx hb dX1_goes_163 (by decide) ?_
          refine lv_istore (lv' := [(7, .int (1 : Int32)), (6, .int (0 : Int32)), (0, .ref (L 1 0)), (1, .ref (L 50 i1)), (2, .ref (L 80 i2)), (3, .int x3), (4, .int x4), (5, .int x5)]) hx hb dX1_goes_164 hl (by decide) rfl (fun ls hl => ?_)
          exact hL166 fu_ σ24 x5 (0 : Int32) (1 : Int32) _ _ ls hW (lv_sub hl [2, 3, 4, 7, 1, 0] rfl) hs
        · have hs := ww_T hs hc19
          refine lv_iconst (v := 0) hx hb dX1_goes_137 (by decide) ?_
          have hs := ww_S hs
          exact we_i hx hb hr hlocks hW (congrArg Prod.fst hs) (congrArg Prod.snd hs) (Nat.le_of_ble_eq_true rfl) (Nat.le_of_ble_eq_true rfl) dX1_goes_138
      · have hs := ww_F hs hc18
        refine lv_aload_n hx hb dX1_goes_36 rfl (lv_at hl 1 rfl) ?_
        refine lv_iload hx hb dX1_goes_37 (lv_at hl 6 rfl) ?_
        obtain ⟨v27, hc25, hs⟩ := ww_bnd hs
        obtain ⟨hc28, hs⟩ := ww_chk hs
        refine ww_ci (va_runV (As := [.int x6]) (rest := []) ⟨hx, hb, hml, hown, hts⟩ (c_X2_isRipe g hgm l L σ i1 x6 _ hc25) (cwV 1 hts (lw_V q563 q564 q565 q112 q566) rfl rfl rfl hd_X2_isRipe ⟨(Nat.le_of_ble_eq_true rfl), (Nat.le_of_ble_eq_true rfl)⟩) (ww_preV hW (pr_st (hW.rd hgm) hc28) (obv_0 rfl) rfl) rfl rfl hl.1 rfl (lv_room (Nat.le_of_ble_eq_true rfl)) dX1_goes_39 ⟨Nat.le_of_ble_eq_true rfl, Nat.le_of_ble_eq_true rfl⟩) hW (fun H locs hW => ?_)
        refine lv_if_eq (tgt := 125) hx hb dX1_goes_42 (by decide) (fun hc29 => ?_) (fun hc29 => ?_)
        · have hs := ww_T hs hc29
          exact hL125 σ x3 x4 x5 x6 _ _ ls hW (lv_sub hl [0, 1, 2, 3, 4, 5, 6] rfl) hs
        · have hs := ww_F hs hc29
          refine lv_aload_n hx hb dX1_goes_45 rfl (lv_at hl 0 rfl) ?_
          refine gf_X1_57 hx hb hts hown hW (pr_st (hW.rd hgm) (Nat.le_of_ble_eq_true rfl)) (hW.fl hgm (pr_st (hW.rd hgm) (Nat.le_of_ble_eq_true rfl)) 4 (by decide) rfl (by decide)) dX1_goes_46 ?_
          refine gf_X1_279 hx hb hts hown hW (pr_st (hW.rd hgm) (Nat.le_of_ble_eq_true rfl)) (hW.fl hgm (pr_st (hW.rd hgm) (Nat.le_of_ble_eq_true rfl)) 0 (by decide) rfl (by decide)) dX1_goes_49 ?_
          refine lv_iload hx hb dX1_goes_52 (lv_at hl 6 rfl) ?_
          obtain ⟨hc30, hs⟩ := ww_chk hs
          refine ww_iald hx hb hW 61 0 (pr_st (hW.rd hgm) (Nat.le_of_ble_eq_true rfl)) rfl hc30 dX1_goes_54 ?_
          refine lv_ldcw hx hb hown (hts _ q567) dX1_goes_55 ?_
          refine lv_icmp_ne (tgt := 64) hx hb dX1_goes_58 (by decide) (fun hc31 => ?_) (fun hc31 => ?_)
          · have hs := ww_F hs hc31
            refine lv_aload_n hx hb dX1_goes_64 rfl (lv_at hl 0 rfl) ?_
            refine gf_X1_156 hx hb hts hown hW (pr_st (hW.rd hgm) (Nat.le_of_ble_eq_true rfl)) (hW.fl hgm (pr_st (hW.rd hgm) (Nat.le_of_ble_eq_true rfl)) 31 (by decide) rfl (by decide)) dX1_goes_65 ?_
            refine lv_aload_n hx hb dX1_goes_68 rfl (lv_at hl 1 rfl) ?_
            refine gf_X1_224 hx hb hts hown hW (pr_st (hW.rd hgm) hc28) (hW.fl hgm (pr_st (hW.rd hgm) hc28) 2 (by decide) rfl (by decide)) dX1_goes_69 ?_
            refine lv_iload hx hb dX1_goes_72 (lv_at hl 6 rfl) ?_
            refine ww_iald hx hb hW 53 i1 (pr_st (hW.rd hgm) hc28) rfl hc30 dX1_goes_74 ?_
            refine lv_iload_n hx hb dX1_goes_75 rfl (lv_at hl 3 rfl) ?_
            obtain ⟨v34, hc32, hs⟩ := ww_bnd hs
            obtain ⟨hc35, hs⟩ := ww_chk hs
            refine ww_ci (va_runV (As := [.int (gA_ σ 53 i1 x6.toNatClampNeg), .int x3]) (rest := []) ⟨hx, hb, hml, hown, hts⟩ (c_X5_like g hgm l L σ (gP_ σ 1 31 0) (gA_ σ 53 i1 x6.toNatClampNeg) x3 _ hc32) (cwV 2 hts (lw_V q568 q569 q570 q118 q571) rfl rfl rfl hd_X5_like ⟨(Nat.le_of_ble_eq_true rfl), (Nat.le_of_ble_eq_true rfl)⟩) (ww_preV hW (pr_dy hc35 rfl rfl) (obv_0 rfl) rfl) rfl rfl hl.1 rfl (lv_room (Nat.le_of_ble_eq_true rfl)) dX1_goes_76 ⟨Nat.le_of_ble_eq_true rfl, Nat.le_of_ble_eq_true rfl⟩) hW (fun H locs hW => ?_)
            refine lv_aload_n hx hb dX1_goes_79 rfl (lv_at hl 1 rfl) ?_
            refine gf_X1_186 hx hb hts hown hW (pr_st (hW.rd hgm) hc28) (hW.fl hgm (pr_st (hW.rd hgm) hc28) 3 (by decide) rfl (by decide)) dX1_goes_80 ?_
            refine lv_iload hx hb dX1_goes_83 (lv_at hl 6 rfl) ?_
            refine ww_iald hx hb hW 54 i1 (pr_st (hW.rd hgm) hc28) rfl hc30 dX1_goes_85 ?_
            refine lv_aload_n hx hb dX1_goes_86 rfl (lv_at hl 2 rfl) ?_
            obtain ⟨hc36, hs⟩ := ww_chk hs
            refine gf_X1_308 hx hb hts hown hW (pr_dy hc36 rfl rfl) dX1_goes_87 ?_
            refine va_mmin hx hb (hml.trans hl.1.symm) hown (hts _ q573) (hts _ q505) (hts _ q134) (hts _ q506) (Nat.le_of_ble_eq_true rfl) (Nat.le_of_ble_eq_true rfl) (Nat.le_of_ble_eq_true rfl) (Nat.le_of_ble_eq_true rfl) dX1_goes_90 ?_
            refine lv_imul hx hb dX1_goes_93 ?_
            refine lv_aload_n hx hb dX1_goes_94 rfl (lv_at hl 0 rfl) ?_
            refine gf_X1_57 hx hb hts hown hW (pr_st (hW.rd hgm) (Nat.le_of_ble_eq_true rfl)) (hW.fl hgm (pr_st (hW.rd hgm) (Nat.le_of_ble_eq_true rfl)) 4 (by decide) rfl (by decide)) dX1_goes_95 ?_
            refine gf_X1_279 hx hb hts hown hW (pr_st (hW.rd hgm) (Nat.le_of_ble_eq_true rfl)) (hW.fl hgm (pr_st (hW.rd hgm) (Nat.le_of_ble_eq_true rfl)) 0 (by decide) rfl (by decide)) dX1_goes_98 ?_
            refine lv_iload hx hb dX1_goes_101 (lv_at hl 6 rfl) ?_
            refine ww_iald hx hb hW 61 0 (pr_st (hW.rd hgm) (Nat.le_of_ble_eq_true rfl)) rfl hc30 dX1_goes_103 ?_
            refine lv_isub hx hb dX1_goes_104 ?_
            refine lv_istore (lv' := [(7, .int ((v34 * (imin (gA_ σ 54 i1 x6.toNatClampNeg) (gF_ σ 80 1 i2))) - (gA_ σ 61 0 x6.toNatClampNeg))), (0, .ref (L 1 0)), (1, .ref (L 50 i1)), (2, .ref (L 80 i2)), (3, .int x3), (4, .int x4), (5, .int x5), (6, .int x6)]) hx hb dX1_goes_105 hl (by decide) rfl (fun ls hl => ?_)
            refine lv_iload hx hb dX1_goes_107 (lv_at hl 0 rfl) ?_
            refine lv_iload hx hb dX1_goes_109 (lv_at hl 5 rfl) ?_
            refine lv_icmp_gt (tgt := 117) hx hb dX1_goes_111 (by decide) (fun hc37 => ?_) (fun hc37 => ?_)
            · have hs := ww_T hs hc37
              refine lv_iload hx hb dX1_goes_117 (lv_at hl 0 rfl) ?_
              refine lv_istore (lv' := [(4, .int ((v34 * (imin (gA_ σ 54 i1 x6.toNatClampNeg) (gF_ σ 80 1 i2))) - (gA_ σ 61 0 x6.toNatClampNeg))), (7, .int ((v34 * (imin (gA_ σ 54 i1 x6.toNatClampNeg) (gF_ σ 80 1 i2))) - (gA_ σ 61 0 x6.toNatClampNeg))), (0, .ref (L 1 0)), (1, .ref (L 50 i1)), (2, .ref (L 80 i2)), (3, .int x3), (5, .int x5), (6, .int x6)]) hx hb dX1_goes_119 hl (by decide) rfl (fun ls hl => ?_)
              refine lv_iload hx hb dX1_goes_121 (lv_at hl 7 rfl) ?_
              refine lv_istore (lv' := [(5, .int x6), (4, .int ((v34 * (imin (gA_ σ 54 i1 x6.toNatClampNeg) (gF_ σ 80 1 i2))) - (gA_ σ 61 0 x6.toNatClampNeg))), (7, .int ((v34 * (imin (gA_ σ 54 i1 x6.toNatClampNeg) (gF_ σ 80 1 i2))) - (gA_ σ 61 0 x6.toNatClampNeg))), (0, .ref (L 1 0)), (1, .ref (L 50 i1)), (2, .ref (L 80 i2)), (3, .int x3), (6, .int x6)]) hx hb dX1_goes_123 hl (by decide) rfl (fun ls hl => ?_)
              exact hL125 σ x3 ((v34 * (imin (gA_ σ 54 i1 x6.toNatClampNeg) (gF_ σ 80 1 i2))) - (gA_ σ 61 0 x6.toNatClampNeg)) x6 x6 _ _ ls hW (lv_sub hl [3, 4, 5, 6, 1, 0, 7] rfl) hs
            · have hs := ww_F hs hc37
              refine lv_goto (tgt := 125) hx hb dX1_goes_114 (by decide) ?_
              exact hL125 σ x3 x4 x5 x6 _ _ ls hW (lv_sub hl [1, 2, 3, 4, 5, 6, 7] rfl) hs
          · have hs := ww_T hs hc31
            refine lv_goto (tgt := 125) hx hb dX1_goes_61 (by decide) ?_
            exact hL125 σ x3 x4 x5 x6 _ _ ls hW (lv_sub hl [0, 1, 2, 3, 4, 5, 6] rfl) hs
  refine lv_iconst (v := 0) hx hb dX1_goes_0 (by decide) ?_
  refine lv_istore (lv' := [(4, .int (0 : Int32)), (0, .ref (L 1 0)), (1, .ref (L 50 i1)), (2, .ref (L 80 i2)), (3, .int a3)]) hx hb dX1_goes_1 hl (by decide) rfl (fun ls hl => ?_)
  refine lv_iconst (v := (-1)) hx hb dX1_goes_3 (by decide) ?_
  refine lv_istore (lv' := [(5, .int (-1 : Int32)), (4, .int (0 : Int32)), (0, .ref (L 1 0)), (1, .ref (L 50 i1)), (2, .ref (L 80 i2)), (3, .int a3)]) hx hb dX1_goes_4 hl (by decide) rfl (fun ls hl => ?_)
  refine lv_aload_n hx hb dX1_goes_6 rfl (lv_at hl 2 rfl) ?_
  refine gf_X1_57 hx hb hts hown hW (pr_st (hW.rd hgm) (Nat.le_of_ble_eq_true rfl)) (hW.fl hgm (pr_st (hW.rd hgm) (Nat.le_of_ble_eq_true rfl)) 4 (by decide) rfl (by decide)) dX1_goes_7 ?_
  refine lv_aload_n hx hb dX1_goes_10 rfl (lv_at hl 3 rfl) ?_
  refine lv_aload_n hx hb dX1_goes_11 rfl (lv_at hl 4 rfl) ?_
  obtain ⟨hc38, hs⟩ := ww_chk hs
  refine gf_X1_199 hx hb hts hown hW (pr_dy hc38 rfl rfl) dX1_goes_12 ?_
  refine lv_aload_n hx hb dX1_goes_15 rfl (lv_at hl 2 rfl) ?_
  refine gf_X1_156 hx hb hts hown hW (pr_st (hW.rd hgm) (Nat.le_of_ble_eq_true rfl)) (hW.fl hgm (pr_st (hW.rd hgm) (Nat.le_of_ble_eq_true rfl)) 31 (by decide) rfl (by decide)) dX1_goes_16 ?_
  obtain ⟨hc39, hs⟩ := ww_chk hs
  refine gf_X1_272 hx hb hts hown hW (pr_dy hc39 rfl rfl) dX1_goes_19 ?_
  refine lv_iconst (v := 0) hx hb dX1_goes_22 (by decide) ?_
  obtain ⟨σ42, hc40, hs⟩ := ww_bnd hs
  refine ww_cv (va_runV (As := [.ref (L 50 i1), .int (gF_ σ 80 0 i2), .int (gF_ σ 87 3 (gP_ σ 1 31 0)), .int (0 : Int32)]) (rest := []) ⟨hx, hb, hml, hown, hts⟩ (c_X3_from g hgm l L σ i1 (gF_ σ 80 0 i2) (gF_ σ 87 3 (gP_ σ 1 31 0)) (0 : Int32) _ hc40) (cwV 4 hts (lw_V q537 q538 q539 q113 q540) rfl rfl rfl hd_X3_from ⟨(Nat.le_of_ble_eq_true rfl), (Nat.le_of_ble_eq_true rfl)⟩) (ww_preV hW (pr_st (hW.rd hgm) (Nat.le_of_ble_eq_true rfl)) (obv_0 rfl) rfl) rfl rfl hl.1 rfl (lv_room (Nat.le_of_ble_eq_true rfl)) dX1_goes_23 ⟨Nat.le_of_ble_eq_true rfl, Nat.le_of_ble_eq_true rfl⟩) hW (fun H locs hW => ?_)
  refine lv_iconst (v := 0) hx hb dX1_goes_26 (by decide) ?_
  refine lv_istore (lv' := [(6, .int (0 : Int32)), (5, .int (-1 : Int32)), (4, .int (0 : Int32)), (0, .ref (L 1 0)), (1, .ref (L 50 i1)), (2, .ref (L 80 i2)), (3, .int a3)]) hx hb dX1_goes_27 hl (by decide) rfl (fun ls hl => ?_)
  exact hL29 fu_ σ42 a3 (0 : Int32) (-1 : Int32) (0 : Int32) _ _ ls hW (lv_sub hl [3, 4, 5, 6, 2, 1, 0] rfl) hs
set_option maxHeartbeats 4000000 in
theorem c_X1_land (g : wg_T) (hgm : gm g = true) (l : Launch) (L : ly_T) (σ : st_T) (a1 : Int32) (a2 : Int32) (hst : l.stackTraces = false) (o_ : Nat ⊕ Int32) (σ_ : st_T) (hs : m_X1_land σ a1 a2 = some (o_, σ_)) : XI g l yX1_land (ws_ yX1_land cX1_land 3 (some .int)) 9 174 (xc o_) (xs o_) [.ref (L 1 0), .int a1, .int a2] L σ o_ σ_ := by
  refine xbody.met (by decide) (Nat.le_of_ble_eq_true rfl) ?_
  intro p e s m args below meth c ls hx hb hr hml hlocks hts hown hnm hout hW hl
  have hown : s.vm.findClass RX1 = some m.cls := hown
  have hl : lv_has ls 3 [(0, .ref (L 1 0)), (1, .int a1), (2, .int a2)] := hl
  unfold m_X1_land at hs
  have hL18 : ∀ (σ : st_T) (x1 : Int32) (x2 : Int32) (t0 : Int32) (H : Heap) (locs : List Loc) (ls : Array Slot), wv g L σ s H locs → lv_has ls 3 [(0, .ref (L 1 0)), (1, .int x1), (2, .int x2)] → m_X1_land_L18 σ x1 x2 t0 = some (o_, σ_) → W p l e (wrm 9 174 (xc o_) (xs o_)) s m args below meth c H locs 0 0 (vx_MQ below (wXi g L o_ σ_) (wX g o_ σ_ L) args s (xc o_) (xs o_) (fun q => gz g ≤ q)) (F0 m 18 ls [.int t0]) := by
    have hL42 : ∀ (σ : st_T) (x1 : Int32) (x2 : Int32) (H : Heap) (locs : List Loc) (ls : Array Slot), wv g L σ s H locs → lv_has ls 3 [(0, .ref (L 1 0)), (1, .int x1), (2, .int x2)] → m_X1_land_L42 σ x1 x2 = some (o_, σ_) → W p l e (wrm 9 174 (xc o_) (xs o_)) s m args below meth c H locs 0 0 (vx_MQ below (wXi g L o_ σ_) (wX g o_ σ_ L) args s (xc o_) (xs o_) (fun q => gz g ≤ q)) (F0 m 42 ls []) := by
      intro σ x1 x2 H locs ls hW hl hs
      unfold m_X1_land_L42 at hs
      refine lv_aload_n hx hb dX1_land_42 rfl (lv_at hl 0 rfl) ?_
      refine lv_iload_n hx hb dX1_land_43 rfl (lv_at hl 1 rfl) ?_
      refine lv_iload_n hx hb dX1_land_44 rfl (lv_at hl 2 rfl) ?_
      obtain ⟨v3, σ4, hc1, hs⟩ := ww_bn2 hs
      refine ww_ci (va_runV (As := [.int x1, .int x2]) (rest := []) ⟨hx, hb, hml, hown, hts⟩ (c_X1_was g hgm l L σ x1 x2 _ _ hc1) (cwV 2 hts (lw_V q885 q887 qs14 q111 q888) rfl rfl rfl hd_X1_was ⟨(Nat.le_of_ble_eq_true rfl), (Nat.le_of_ble_eq_true rfl)⟩) (ww_preV hW (pr_st (hW.rd hgm) (Nat.le_of_ble_eq_true rfl)) (obv_0 rfl) rfl) rfl rfl hl.1 rfl (lv_room (Nat.le_of_ble_eq_true rfl)) dX1_land_45 ⟨Nat.le_of_ble_eq_true rfl, Nat.le_of_ble_eq_true rfl⟩) hW (fun H locs hW => ?_)
      have hs := ww_S hs
      exact wx_i hx hb hr hlocks hW (congrArg Prod.fst hs) (congrArg Prod.snd hs) (Nat.zero_le _) (Nat.zero_le _) dX1_land_48
    intro σ x1 x2 t0 H locs ls hW hl hs
    unfold m_X1_land_L18 at hs
    obtain ⟨o7, hc5, hs⟩ := ww_bnd hs
    rcases o7 with k8 | v9
    · have hs := ww_sL hs
      have hs := ww_S hs
      have e1 : o_ = .inl k8 := congrArg Prod.fst hs
      have e2 : σ_ = σ := congrArg Prod.snd hs
      subst e1
      exact wx_prop (vx_runS (As := [.int t0]) (rest := []) ⟨hx, hb, hml, hown, hts⟩ (c_X1_wrong g hgm l L σ t0 hst _ hc5) (va_cwS 1 hts (lw_S q848 q849 q111 q850) rfl rfl rfl hd_X1_wrong.2 ⟨(Nat.le_of_ble_eq_true rfl), (Nat.le_of_ble_eq_true rfl)⟩) (ww_preS hW) rfl rfl hl.1 rfl (lv_room (Nat.le_of_ble_eq_true rfl)) dX1_land_18 ⟨Nat.le_of_ble_eq_true rfl, Nat.le_of_ble_eq_true rfl⟩) no_v hW hlocks hout rfl e2 (Nat.le_of_ble_eq_true rfl) (Nat.le_of_ble_eq_true rfl)
    · have hs := ww_sR hs
      refine ww_xv0 (vx_runS (As := [.int t0]) (rest := []) ⟨hx, hb, hml, hown, hts⟩ (c_X1_wrong g hgm l L σ t0 hst _ hc5) (va_cwS 1 hts (lw_S q848 q849 q111 q850) rfl rfl rfl hd_X1_wrong.2 ⟨(Nat.le_of_ble_eq_true rfl), (Nat.le_of_ble_eq_true rfl)⟩) (ww_preS hW) rfl rfl hl.1 rfl (lv_room (Nat.le_of_ble_eq_true rfl)) dX1_land_18 ⟨Nat.zero_le _, Nat.zero_le _⟩) hW (fun H locs hW => ?_)
      refine lv_iload_n hx hb dX1_land_21 rfl (lv_at hl 2 rfl) ?_
      refine lv_iconst (v := 1) hx hb dX1_land_22 (by decide) ?_
      refine lv_icmp_ne (tgt := 42) hx hb dX1_land_23 (by decide) (fun hc10 => ?_) (fun hc10 => ?_)
      · have hs := ww_F hs hc10
        exact hL42 σ x1 x2 _ _ ls hW (lv_sub hl [0, 1, 2] rfl) hs
      · have hs := ww_T hs hc10
        refine lv_aload_n hx hb dX1_land_26 rfl (lv_at hl 0 rfl) ?_
        refine lv_iload_n hx hb dX1_land_27 rfl (lv_at hl 1 rfl) ?_
        obtain ⟨v13, hc11, hs⟩ := ww_bnd hs
        refine ww_ci (va_runV (As := [.int x1]) (rest := []) ⟨hx, hb, hml, hown, hts⟩ (c_X1_isHerds g hgm l L σ x1 _ hc11) (cwV 1 hts (lw_V q866 q868 qs13 q111 q869) rfl rfl rfl hd_X1_isHerds ⟨(Nat.le_of_ble_eq_true rfl), (Nat.le_of_ble_eq_true rfl)⟩) (ww_preV hW (pr_st (hW.rd hgm) (Nat.le_of_ble_eq_true rfl)) (obv_0 rfl) rfl) rfl rfl hl.1 rfl (lv_room (Nat.le_of_ble_eq_true rfl)) dX1_land_28 ⟨Nat.le_of_ble_eq_true rfl, Nat.le_of_ble_eq_true rfl⟩) hW (fun H locs hW => ?_)
        refine lv_if_eq (tgt := 42) hx hb dX1_land_31 (by decide) (fun hc14 => ?_) (fun hc14 => ?_)
        · have hs := ww_T hs hc14
          exact hL42 σ x1 x2 _ _ ls hW (lv_sub hl [0, 1, 2] rfl) hs
        · have hs := ww_F hs hc14
          have hs := ww_S hs
          exact th_X1_2 hx hb hlocks hown hts hml hl.1 hout hst hW (congrArg Prod.fst hs) (congrArg Prod.snd hs) dX1_land_34 dX1_land_37 dX1_land_38 dX1_land_41 (Nat.le_of_ble_eq_true rfl) (Nat.le_of_ble_eq_true rfl) rfl rfl
  refine lv_iload_n hx hb dX1_land_0 rfl (lv_at hl 1 rfl) ?_
  obtain ⟨o17, hc15, hs⟩ := ww_bnd hs
  rcases o17 with k18 | v19
  · have hs := ww_sL hs
    have hs := ww_S hs
    have e1 : o_ = .inl k18 := congrArg Prod.fst hs
    have e2 : σ_ = σ := congrArg Prod.snd hs
    subst e1
    exact wx_prop (vx_runS (As := [.int a1]) (rest := []) ⟨hx, hb, hml, hown, hts⟩ (c_X1_cell g hgm l L σ a1 hst _ hc15) (va_cwS 1 hts (lw_S q821 q822 q111 q823) rfl rfl rfl hd_X1_cell.2 ⟨(Nat.le_of_ble_eq_true rfl), (Nat.le_of_ble_eq_true rfl)⟩) (ww_preS hW) rfl rfl hl.1 rfl (lv_room (Nat.le_of_ble_eq_true rfl)) dX1_land_1 ⟨Nat.le_of_ble_eq_true rfl, Nat.le_of_ble_eq_true rfl⟩) no_v hW hlocks hout rfl e2 (Nat.le_of_ble_eq_true rfl) (Nat.le_of_ble_eq_true rfl)
  · have hs := ww_sR hs
    refine ww_xv0 (vx_runS (As := [.int a1]) (rest := []) ⟨hx, hb, hml, hown, hts⟩ (c_X1_cell g hgm l L σ a1 hst _ hc15) (va_cwS 1 hts (lw_S q821 q822 q111 q823) rfl rfl rfl hd_X1_cell.2 ⟨(Nat.le_of_ble_eq_true rfl), (Nat.le_of_ble_eq_true rfl)⟩) (ww_preS hW) rfl rfl hl.1 rfl (lv_room (Nat.le_of_ble_eq_true rfl)) dX1_land_1 ⟨Nat.zero_le _, Nat.zero_le _⟩) hW (fun H locs hW => ?_)
    refine lv_iload_n hx hb dX1_land_4 rfl (lv_at hl 2 rfl) ?_
    refine lv_iconst (v := 0) hx hb dX1_land_5 (by decide) ?_
    refine lv_iconst (v := 1) hx hb dX1_land_6 (by decide) ?_
    obtain ⟨v22, hc20, hs⟩ := ww_bnd hs
    refine ww_ci (va_runS (As := [.int a2, .int (0 : Int32), .int (1 : Int32)]) (rest := []) ⟨hx, hb, hml, hown, hts⟩ (c_X1_in g hgm l L σ a2 (0 : Int32) (1 : Int32) _ hc20) (va_cwS 3 hts (lw_S q824 q825 q111 q826) rfl rfl rfl hd_X1_in.2 ⟨(Nat.le_of_ble_eq_true rfl), (Nat.le_of_ble_eq_true rfl)⟩) (ww_preS hW) rfl rfl hl.1 rfl (lv_room (Nat.le_of_ble_eq_true rfl)) dX1_land_7 ⟨Nat.le_of_ble_eq_true rfl, Nat.le_of_ble_eq_true rfl⟩) hW (fun H locs hW => ?_)
    refine lv_if_ne (tgt := 17) hx hb dX1_land_10 (by decide) (fun hc23 => ?_) (fun hc23 => ?_)
    · have hs := ww_F hs hc23
      refine lv_iconst (v := 0) hx hb dX1_land_17 (by decide) ?_
      exact hL18 σ a1 a2 (0 : Int32) _ _ ls hW (lv_sub hl [0, 1, 2] rfl) hs
    · have hs := ww_T hs hc23
      refine lv_iconst (v := 1) hx hb dX1_land_13 (by decide) ?_
      refine lv_goto (tgt := 18) hx hb dX1_land_14 (by decide) ?_
      exact hL18 σ a1 a2 (1 : Int32) _ _ ls hW (lv_sub hl [0, 1, 2] rfl) hs
set_option maxHeartbeats 4000000 in
theorem c_X1_fence (g : wg_T) (hgm : gm g = true) (l : Launch) (L : ly_T) (σ : st_T) (a1 : Int32) (a2 : Int32) (a3 : Int32) (a4 : Int32) (hst : l.stackTraces = false) (o_ : Nat ⊕ Int32) (σ_ : st_T) (hs : m_X1_fence σ a1 a2 a3 a4 = some (o_, σ_)) : XI g l yX1_fence (ws_ yX1_fence cX1_fence 6 (some .int)) 10 181 (xc o_) (xs o_) [.ref (L 1 0), .int a1, .int a2, .int a3, .int a4] L σ o_ σ_ := by
  refine xbody.met (by decide) (Nat.le_of_ble_eq_true rfl) ?_
  intro p e s m args below meth c ls hx hb hr hml hlocks hts hown hnm hout hW hl
  have hown : s.vm.findClass RX1 = some m.cls := hown
  have hl : lv_has ls 6 [(0, .ref (L 1 0)), (1, .int a1), (2, .int a2), (3, .int a3), (4, .int a4)] := hl
  unfold m_X1_fence at hs
  have hL30 : ∀ (σ : st_T) (x1 : Int32) (x2 : Int32) (x3 : Int32) (x4 : Int32) (t0 : Int32) (H : Heap) (locs : List Loc) (ls : Array Slot), wv g L σ s H locs → lv_has ls 6 [(0, .ref (L 1 0)), (1, .int x1), (2, .int x2), (3, .int x3), (4, .int x4)] → m_X1_fence_L30 σ x1 x2 x3 x4 t0 = some (o_, σ_) → W p l e (wrm 10 181 (xc o_) (xs o_)) s m args below meth c H locs 0 0 (vx_MQ below (wXi g L o_ σ_) (wX g o_ σ_ L) args s (xc o_) (xs o_) (fun q => gz g ≤ q)) (F0 m 30 ls [.int t0]) := by
    intro σ x1 x2 x3 x4 t0 H locs ls hW hl hs
    unfold m_X1_fence_L30 at hs
    obtain ⟨o3, hc1, hs⟩ := ww_bnd hs
    rcases o3 with k4 | v5
    · have hs := ww_sL hs
      have hs := ww_S hs
      have e1 : o_ = .inl k4 := congrArg Prod.fst hs
      have e2 : σ_ = σ := congrArg Prod.snd hs
      subst e1
      exact wx_prop (vx_runS (As := [.int t0]) (rest := []) ⟨hx, hb, hml, hown, hts⟩ (c_X1_wrong g hgm l L σ t0 hst _ hc1) (va_cwS 1 hts (lw_S q848 q849 q111 q850) rfl rfl rfl hd_X1_wrong.2 ⟨(Nat.le_of_ble_eq_true rfl), (Nat.le_of_ble_eq_true rfl)⟩) (ww_preS hW) rfl rfl hl.1 rfl (lv_room (Nat.le_of_ble_eq_true rfl)) dX1_fence_30 ⟨Nat.le_of_ble_eq_true rfl, Nat.le_of_ble_eq_true rfl⟩) no_v hW hlocks hout rfl e2 (Nat.le_of_ble_eq_true rfl) (Nat.le_of_ble_eq_true rfl)
    · have hs := ww_sR hs
      refine ww_xv0 (vx_runS (As := [.int t0]) (rest := []) ⟨hx, hb, hml, hown, hts⟩ (c_X1_wrong g hgm l L σ t0 hst _ hc1) (va_cwS 1 hts (lw_S q848 q849 q111 q850) rfl rfl rfl hd_X1_wrong.2 ⟨(Nat.le_of_ble_eq_true rfl), (Nat.le_of_ble_eq_true rfl)⟩) (ww_preS hW) rfl rfl hl.1 rfl (lv_room (Nat.le_of_ble_eq_true rfl)) dX1_fence_30 ⟨Nat.zero_le _, Nat.zero_le _⟩) hW (fun H locs hW => ?_)
      refine lv_aload_n hx hb dX1_fence_33 rfl (lv_at hl 0 rfl) ?_
      refine gf_X1_44 hx hb hts hown hW (pr_st (hW.rd hgm) (Nat.le_of_ble_eq_true rfl)) (hW.fl hgm (pr_st (hW.rd hgm) (Nat.le_of_ble_eq_true rfl)) 1 (by decide) rfl (by decide)) dX1_fence_34 ?_
      refine lv_iload_n hx hb dX1_fence_37 rfl (lv_at hl 1 rfl) ?_
      refine lv_iload_n hx hb dX1_fence_38 rfl (lv_at hl 2 rfl) ?_
      obtain ⟨v8, hc6, hs⟩ := ww_bnd hs
      refine ww_ci (va_runV (As := [.int x1, .int x2]) (rest := []) ⟨hx, hb, hml, hown, hts⟩ (c_X2_fence g hgm l L σ 0 x1 x2 _ hc6) (cwV 2 hts (lw_V q927 q556 q557 q112 q558) rfl rfl rfl hd_X2_fence ⟨(Nat.le_of_ble_eq_true rfl), (Nat.le_of_ble_eq_true rfl)⟩) (ww_preV hW (pr_st (hW.rd hgm) (Nat.le_of_ble_eq_true rfl)) (obv_0 rfl) rfl) rfl rfl hl.1 rfl (lv_room (Nat.le_of_ble_eq_true rfl)) dX1_fence_39 ⟨Nat.le_of_ble_eq_true rfl, Nat.le_of_ble_eq_true rfl⟩) hW (fun H locs hW => ?_)
      refine lv_istore (lv' := [(5, .int v8), (0, .ref (L 1 0)), (1, .int x1), (2, .int x2), (3, .int x3), (4, .int x4)]) hx hb dX1_fence_42 hl (by decide) rfl (fun ls hl => ?_)
      refine lv_aload_n hx hb dX1_fence_44 rfl (lv_at hl 1 rfl) ?_
      refine gf_X1_44 hx hb hts hown hW (pr_st (hW.rd hgm) (Nat.le_of_ble_eq_true rfl)) (hW.fl hgm (pr_st (hW.rd hgm) (Nat.le_of_ble_eq_true rfl)) 1 (by decide) rfl (by decide)) dX1_fence_45 ?_
      refine lv_iload_n hx hb dX1_fence_48 rfl (lv_at hl 2 rfl) ?_
      refine lv_iload_n hx hb dX1_fence_49 rfl (lv_at hl 3 rfl) ?_
      refine lv_iload_n hx hb dX1_fence_50 rfl (lv_at hl 4 rfl) ?_
      obtain ⟨σ11, hc9, hs⟩ := ww_bnd hs
      refine ww_cv (va_runV (As := [.int x1, .int x2, .int x3]) (rest := []) ⟨hx, hb, hml, hown, hts⟩ (c_X2_fence_2 g hgm l L σ 0 x1 x2 x3 _ hc9) (cwV 3 hts (lw_V q579 q580 q581 q112 q582) rfl rfl rfl hd_X2_fence_2 ⟨(Nat.le_of_ble_eq_true rfl), (Nat.le_of_ble_eq_true rfl)⟩) (ww_preV hW (pr_st (hW.rd hgm) (Nat.le_of_ble_eq_true rfl)) (obv_0 rfl) rfl) rfl rfl hl.1 rfl (lv_room (Nat.le_of_ble_eq_true rfl)) dX1_fence_51 ⟨Nat.le_of_ble_eq_true rfl, Nat.le_of_ble_eq_true rfl⟩) hW (fun H locs hW => ?_)
      refine lv_aload_n hx hb dX1_fence_54 rfl (lv_at hl 1 rfl) ?_
      refine gf_X1_44 hx hb hts hown hW (pr_st (hW.rd hgm) (Nat.le_of_ble_eq_true rfl)) (hW.fl hgm (pr_st (hW.rd hgm) (Nat.le_of_ble_eq_true rfl)) 1 (by decide) rfl (by decide)) dX1_fence_55 ?_
      refine lv_iload_n hx hb dX1_fence_58 rfl (lv_at hl 2 rfl) ?_
      refine lv_iload_n hx hb dX1_fence_59 rfl (lv_at hl 3 rfl) ?_
      refine lv_iload hx hb dX1_fence_60 (lv_at hl 5 rfl) ?_
      obtain ⟨σ14, hc12, hs⟩ := ww_bnd hs
      refine ww_cv (va_runV (As := [.int x1, .int x2, .int x4]) (rest := []) ⟨hx, hb, hml, hown, hts⟩ (c_X2_builder g hgm l L σ11 0 x1 x2 x4 _ hc12) (cwV 3 hts (lw_V q928 q929 q930 q112 q931) rfl rfl rfl hd_X2_builder ⟨(Nat.le_of_ble_eq_true rfl), (Nat.le_of_ble_eq_true rfl)⟩) (ww_preV hW (pr_st (hW.rd hgm) (Nat.le_of_ble_eq_true rfl)) (obv_0 rfl) rfl) rfl rfl hl.1 rfl (lv_room (Nat.le_of_ble_eq_true rfl)) dX1_fence_62 ⟨Nat.le_of_ble_eq_true rfl, Nat.le_of_ble_eq_true rfl⟩) hW (fun H locs hW => ?_)
      refine lv_iload hx hb dX1_fence_65 (lv_at hl 0 rfl) ?_
      have hs := ww_S hs
      exact wx_i hx hb hr hlocks hW (congrArg Prod.fst hs) (congrArg Prod.snd hs) (Nat.zero_le _) (Nat.zero_le _) dX1_fence_67
  have hL25 : ∀ (σ : st_T) (x1 : Int32) (x2 : Int32) (x3 : Int32) (x4 : Int32) (H : Heap) (locs : List Loc) (ls : Array Slot), wv g L σ s H locs → lv_has ls 6 [(0, .ref (L 1 0)), (1, .int x1), (2, .int x2), (3, .int x3), (4, .int x4)] → (m_X1_fence_L25 m_X1_fence_L30) σ x1 x2 x3 x4 = some (o_, σ_) → W p l e (wrm 10 181 (xc o_) (xs o_)) s m args below meth c H locs 0 0 (vx_MQ below (wXi g L o_ σ_) (wX g o_ σ_ L) args s (xc o_) (xs o_) (fun q => gz g ≤ q)) (F0 m 25 ls []) := by
    intro σ x1 x2 x3 x4 H locs ls hW hl hs
    unfold m_X1_fence_L25 at hs
    refine lv_iconst (v := 1) hx hb dX1_fence_25 (by decide) ?_
    refine lv_goto (tgt := 30) hx hb dX1_fence_26 (by decide) ?_
    exact hL30 σ x1 x2 x3 x4 (1 : Int32) _ _ ls hW (lv_sub hl [0, 1, 2, 3, 4] rfl) hs
  refine lv_iload_n hx hb dX1_fence_0 rfl (lv_at hl 1 rfl) ?_
  refine lv_iload_n hx hb dX1_fence_1 rfl (lv_at hl 2 rfl) ?_
  obtain ⟨o17, hc15, hs⟩ := ww_bnd hs
  rcases o17 with k18 | v19
  · have hs := ww_sL hs
    have hs := ww_S hs
    have e1 : o_ = .inl k18 := congrArg Prod.fst hs
    have e2 : σ_ = σ := congrArg Prod.snd hs
    subst e1
    exact wx_prop (vx_runS (As := [.int a1, .int a2]) (rest := []) ⟨hx, hb, hml, hown, hts⟩ (c_X1_edge g hgm l L σ a1 a2 hst _ hc15) (va_cwS 2 hts (lw_S q920 q921 q111 q922) rfl rfl rfl hd_X1_edge.2 ⟨(Nat.le_of_ble_eq_true rfl), (Nat.le_of_ble_eq_true rfl)⟩) (ww_preS hW) rfl rfl hl.1 rfl (lv_room (Nat.le_of_ble_eq_true rfl)) dX1_fence_2 ⟨Nat.le_of_ble_eq_true rfl, Nat.le_of_ble_eq_true rfl⟩) no_v hW hlocks hout rfl e2 (Nat.le_of_ble_eq_true rfl) (Nat.le_of_ble_eq_true rfl)
  · have hs := ww_sR hs
    refine ww_xv0 (vx_runS (As := [.int a1, .int a2]) (rest := []) ⟨hx, hb, hml, hown, hts⟩ (c_X1_edge g hgm l L σ a1 a2 hst _ hc15) (va_cwS 2 hts (lw_S q920 q921 q111 q922) rfl rfl rfl hd_X1_edge.2 ⟨(Nat.le_of_ble_eq_true rfl), (Nat.le_of_ble_eq_true rfl)⟩) (ww_preS hW) rfl rfl hl.1 rfl (lv_room (Nat.le_of_ble_eq_true rfl)) dX1_fence_2 ⟨Nat.zero_le _, Nat.zero_le _⟩) hW (fun H locs hW => ?_)
    refine lv_iload_n hx hb dX1_fence_5 rfl (lv_at hl 3 rfl) ?_
    refine lv_iconst (v := 0) hx hb dX1_fence_6 (by decide) ?_
    refine lv_bipush (v := 100) hx hb dX1_fence_7 (by decide) ?_
    obtain ⟨v22, hc20, hs⟩ := ww_bnd hs
    refine ww_ci (va_runS (As := [.int a3, .int (0 : Int32), .int (100 : Int32)]) (rest := []) ⟨hx, hb, hml, hown, hts⟩ (c_X1_in g hgm l L σ a3 (0 : Int32) (100 : Int32) _ hc20) (va_cwS 3 hts (lw_S q824 q825 q111 q826) rfl rfl rfl hd_X1_in.2 ⟨(Nat.le_of_ble_eq_true rfl), (Nat.le_of_ble_eq_true rfl)⟩) (ww_preS hW) rfl rfl hl.1 rfl (lv_room (Nat.le_of_ble_eq_true rfl)) dX1_fence_9 ⟨Nat.le_of_ble_eq_true rfl, Nat.le_of_ble_eq_true rfl⟩) hW (fun H locs hW => ?_)
    refine lv_if_eq (tgt := 25) hx hb dX1_fence_12 (by decide) (fun hc23 => ?_) (fun hc23 => ?_)
    · have hs := ww_T hs hc23
      exact hL25 σ a1 a2 a3 a4 _ _ ls hW (lv_sub hl [0, 1, 2, 3, 4] rfl) hs
    · have hs := ww_F hs hc23
      refine lv_iload hx hb dX1_fence_15 (lv_at hl 4 rfl) ?_
      refine lv_iconst (v := 0) hx hb dX1_fence_17 (by decide) ?_
      refine lv_iconst (v := 1) hx hb dX1_fence_18 (by decide) ?_
      obtain ⟨v26, hc24, hs⟩ := ww_bnd hs
      refine ww_ci (va_runS (As := [.int a4, .int (0 : Int32), .int (1 : Int32)]) (rest := []) ⟨hx, hb, hml, hown, hts⟩ (c_X1_in g hgm l L σ a4 (0 : Int32) (1 : Int32) _ hc24) (va_cwS 3 hts (lw_S q824 q825 q111 q826) rfl rfl rfl hd_X1_in.2 ⟨(Nat.le_of_ble_eq_true rfl), (Nat.le_of_ble_eq_true rfl)⟩) (ww_preS hW) rfl rfl hl.1 rfl (lv_room (Nat.le_of_ble_eq_true rfl)) dX1_fence_19 ⟨Nat.le_of_ble_eq_true rfl, Nat.le_of_ble_eq_true rfl⟩) hW (fun H locs hW => ?_)
      refine lv_if_ne (tgt := 29) hx hb dX1_fence_22 (by decide) (fun hc27 => ?_) (fun hc27 => ?_)
      · have hs := ww_F hs hc27
        refine lv_iconst (v := 0) hx hb dX1_fence_29 (by decide) ?_
        exact hL30 σ a1 a2 a3 a4 (0 : Int32) _ _ ls hW (lv_sub hl [0, 1, 2, 3, 4] rfl) hs
      · have hs := ww_T hs hc27
        exact hL25 σ a1 a2 a3 a4 _ _ ls hW (lv_sub hl [0, 1, 2, 3, 4] rfl) hs
set_option maxHeartbeats 4000000 in
theorem c_X1_cost (g : wg_T) (hgm : gm g = true) (l : Launch) (L : ly_T) (σ : st_T) (a1 : Int32) (a2 : Int32) (hst : l.stackTraces = false) (o_ : Nat ⊕ Int32) (σ_ : st_T) (hs : m_X1_cost σ a1 a2 = some (o_, σ_)) : XI g l yX1_cost (ws_ yX1_cost cX1_cost 4 (some .int)) 9 171 (xc o_) (xs o_) [.ref (L 1 0), .int a1, .int a2] L σ o_ σ_ := by
  refine xbody.met (by decide) (Nat.le_of_ble_eq_true rfl) ?_
  intro p e s m args below meth c ls hx hb hr hml hlocks hts hown hnm hout hW hl
  have hown : s.vm.findClass RX1 = some m.cls := hown
  have hl : lv_has ls 4 [(0, .ref (L 1 0)), (1, .int a1), (2, .int a2)] := hl
  unfold m_X1_cost at hs
  have hL61 : ∀ (σ : st_T) (t0 : Int32) (H : Heap) (locs : List Loc) (ls : Array Slot), wv g L σ s H locs → lv_has ls 4 [] → m_X1_cost_L61 σ t0 = some (o_, σ_) → W p l e (wrm 9 171 (xc o_) (xs o_)) s m args below meth c H locs 0 0 (vx_MQ below (wXi g L o_ σ_) (wX g o_ σ_ L) args s (xc o_) (xs o_) (fun q => gz g ≤ q)) (F0 m 61 ls [.int t0]) := by
    intro σ t0 H locs ls hW hl hs
    unfold m_X1_cost_L61 at hs
    have hs := ww_S hs
    exact wx_i hx hb hr hlocks hW (congrArg Prod.fst hs) (congrArg Prod.snd hs) (Nat.zero_le _) (Nat.zero_le _) dX1_cost_61
  refine lv_aload_n hx hb dX1_cost_0 rfl (lv_at hl 0 rfl) ?_
  refine lv_iload_n hx hb dX1_cost_1 rfl (lv_at hl 1 rfl) ?_
  obtain ⟨o3, hc1, hs⟩ := ww_bnd hs
  rcases o3 with k4 | v5
  · have hs := ww_sL hs
    have hs := ww_S hs
    have e1 : o_ = .inl k4 := congrArg Prod.fst hs
    have e2 : σ_ = σ := congrArg Prod.snd hs
    subst e1
    exact wx_prop (vx_runV (As := [.int a1]) (rest := []) ⟨hx, hb, hml, hown, hts⟩ (c_X1_herdAt g hgm l L σ a1 hst _ hc1) (cwV 1 hts (lw_V q1191 q1193 qs27 q111 q1194) rfl rfl rfl hd_X1_herdAt ⟨(Nat.le_of_ble_eq_true rfl), (Nat.le_of_ble_eq_true rfl)⟩) (ww_preV hW (pr_st (hW.rd hgm) (Nat.le_of_ble_eq_true rfl)) (obv_0 rfl) rfl) rfl rfl hl.1 rfl (lv_room (Nat.le_of_ble_eq_true rfl)) dX1_cost_2 ⟨Nat.le_of_ble_eq_true rfl, Nat.le_of_ble_eq_true rfl⟩) no_r hW hlocks hout rfl e2 (Nat.le_of_ble_eq_true rfl) (Nat.le_of_ble_eq_true rfl)
  · have hs := ww_sR hs
    refine ww_xr0 (vx_runV (As := [.int a1]) (rest := []) ⟨hx, hb, hml, hown, hts⟩ (c_X1_herdAt g hgm l L σ a1 hst _ hc1) (cwV 1 hts (lw_V q1191 q1193 qs27 q111 q1194) rfl rfl rfl hd_X1_herdAt ⟨(Nat.le_of_ble_eq_true rfl), (Nat.le_of_ble_eq_true rfl)⟩) (ww_preV hW (pr_st (hW.rd hgm) (Nat.le_of_ble_eq_true rfl)) (obv_0 rfl) rfl) rfl rfl hl.1 rfl (lv_room (Nat.le_of_ble_eq_true rfl)) dX1_cost_2 ⟨Nat.zero_le _, Nat.zero_le _⟩) hW (fun H locs hW => ?_)
    refine lv_astore_n (lv' := [(3, .ref (L 80 v5)), (0, .ref (L 1 0)), (1, .int a1), (2, .int a2)]) hx hb dX1_cost_5 rfl hl (by decide) rfl (fun ls hl => ?_)
    refine lv_iload_n hx hb dX1_cost_6 rfl (lv_at hl 3 rfl) ?_
    obtain ⟨o8, hc6, hs⟩ := ww_bnd hs
    rcases o8 with k9 | v10
    · have hs := ww_sL hs
      have hs := ww_S hs
      have e1 : o_ = .inl k9 := congrArg Prod.fst hs
      have e2 : σ_ = σ := congrArg Prod.snd hs
      subst e1
      exact wx_prop (vx_runS (As := [.int a2]) (rest := []) ⟨hx, hb, hml, hown, hts⟩ (c_X1_cell g hgm l L σ a2 hst _ hc6) (va_cwS 1 hts (lw_S q821 q822 q111 q823) rfl rfl rfl hd_X1_cell.2 ⟨(Nat.le_of_ble_eq_true rfl), (Nat.le_of_ble_eq_true rfl)⟩) (ww_preS hW) rfl rfl hl.1 rfl (lv_room (Nat.le_of_ble_eq_true rfl)) dX1_cost_7 ⟨Nat.le_of_ble_eq_true rfl, Nat.le_of_ble_eq_true rfl⟩) no_v hW hlocks hout rfl e2 (Nat.le_of_ble_eq_true rfl) (Nat.le_of_ble_eq_true rfl)
    · have hs := ww_sR hs
      refine ww_xv0 (vx_runS (As := [.int a2]) (rest := []) ⟨hx, hb, hml, hown, hts⟩ (c_X1_cell g hgm l L σ a2 hst _ hc6) (va_cwS 1 hts (lw_S q821 q822 q111 q823) rfl rfl rfl hd_X1_cell.2 ⟨(Nat.le_of_ble_eq_true rfl), (Nat.le_of_ble_eq_true rfl)⟩) (ww_preS hW) rfl rfl hl.1 rfl (lv_room (Nat.le_of_ble_eq_true rfl)) dX1_cost_7 ⟨Nat.zero_le _, Nat.zero_le _⟩) hW (fun H locs hW => ?_)
      refine lv_aload_n hx hb dX1_cost_10 rfl (lv_at hl 1 rfl) ?_
      refine gf_X1_57 hx hb hts hown hW (pr_st (hW.rd hgm) (Nat.le_of_ble_eq_true rfl)) (hW.fl hgm (pr_st (hW.rd hgm) (Nat.le_of_ble_eq_true rfl)) 4 (by decide) rfl (by decide)) dX1_cost_11 ?_
      refine lv_aload_n hx hb dX1_cost_14 rfl (lv_at hl 1 rfl) ?_
      refine gf_X1_44 hx hb hts hown hW (pr_st (hW.rd hgm) (Nat.le_of_ble_eq_true rfl)) (hW.fl hgm (pr_st (hW.rd hgm) (Nat.le_of_ble_eq_true rfl)) 1 (by decide) rfl (by decide)) dX1_cost_15 ?_
      refine lv_aload_n hx hb dX1_cost_18 rfl (lv_at hl 0 rfl) ?_
      obtain ⟨hc11, hs⟩ := ww_chk hs
      refine gf_X1_199 hx hb hts hown hW (pr_dy hc11 rfl rfl) dX1_cost_19 ?_
      refine lv_aload_n hx hb dX1_cost_22 rfl (lv_at hl 1 rfl) ?_
      refine gf_X1_156 hx hb hts hown hW (pr_st (hW.rd hgm) (Nat.le_of_ble_eq_true rfl)) (hW.fl hgm (pr_st (hW.rd hgm) (Nat.le_of_ble_eq_true rfl)) 31 (by decide) rfl (by decide)) dX1_cost_23 ?_
      obtain ⟨hc12, hs⟩ := ww_chk hs
      refine gf_X1_272 hx hb hts hown hW (pr_dy hc12 rfl rfl) dX1_cost_26 ?_
      refine lv_iconst (v := 0) hx hb dX1_cost_29 (by decide) ?_
      obtain ⟨σ15, hc13, hs⟩ := ww_bnd hs
      refine ww_cv (va_runV (As := [.ref (L 50 0), .int (gF_ σ 80 0 v5), .int (gF_ σ 87 3 (gP_ σ 1 31 0)), .int (0 : Int32)]) (rest := []) ⟨hx, hb, hml, hown, hts⟩ (c_X3_from g hgm l L σ 0 (gF_ σ 80 0 v5) (gF_ σ 87 3 (gP_ σ 1 31 0)) (0 : Int32) _ hc13) (cwV 4 hts (lw_V q537 q538 q539 q113 q540) rfl rfl rfl hd_X3_from ⟨(Nat.le_of_ble_eq_true rfl), (Nat.le_of_ble_eq_true rfl)⟩) (ww_preV hW (pr_st (hW.rd hgm) (Nat.le_of_ble_eq_true rfl)) (obv_0 rfl) rfl) rfl rfl hl.1 rfl (lv_room (Nat.le_of_ble_eq_true rfl)) dX1_cost_30 ⟨Nat.le_of_ble_eq_true rfl, Nat.le_of_ble_eq_true rfl⟩) hW (fun H locs hW => ?_)
      refine lv_aload_n hx hb dX1_cost_33 rfl (lv_at hl 1 rfl) ?_
      refine gf_X1_57 hx hb hts hown hW (pr_st (hW.rd hgm) (Nat.le_of_ble_eq_true rfl)) (hW.fl hgm (pr_st (hW.rd hgm) (Nat.le_of_ble_eq_true rfl)) 4 (by decide) rfl (by decide)) dX1_cost_34 ?_
      refine gf_X1_279 hx hb hts hown hW (pr_st (hW.rd hgm) (Nat.le_of_ble_eq_true rfl)) (hW.fl hgm (pr_st (hW.rd hgm) (Nat.le_of_ble_eq_true rfl)) 0 (by decide) rfl (by decide)) dX1_cost_37 ?_
      refine lv_iload_n hx hb dX1_cost_40 rfl (lv_at hl 3 rfl) ?_
      obtain ⟨hc16, hs⟩ := ww_chk hs
      refine ww_iald hx hb hW 61 0 (pr_st (hW.rd hgm) (Nat.le_of_ble_eq_true rfl)) rfl hc16 dX1_cost_41 ?_
      refine lv_ldcw hx hb hown (hts _ q567) dX1_cost_42 ?_
      refine lv_icmp_ne (tgt := 52) hx hb dX1_cost_45 (by decide) (fun hc17 => ?_) (fun hc17 => ?_)
      · have hs := ww_F hs hc17
        refine lv_aload_n hx hb dX1_cost_52 rfl (lv_at hl 1 rfl) ?_
        refine gf_X1_57 hx hb hts hown hW (pr_st (hW.rd hgm) (Nat.le_of_ble_eq_true rfl)) (hW.fl hgm (pr_st (hW.rd hgm) (Nat.le_of_ble_eq_true rfl)) 4 (by decide) rfl (by decide)) dX1_cost_53 ?_
        refine gf_X1_279 hx hb hts hown hW (pr_st (hW.rd hgm) (Nat.le_of_ble_eq_true rfl)) (hW.fl hgm (pr_st (hW.rd hgm) (Nat.le_of_ble_eq_true rfl)) 0 (by decide) rfl (by decide)) dX1_cost_56 ?_
        refine lv_iload_n hx hb dX1_cost_59 rfl (lv_at hl 3 rfl) ?_
        refine ww_iald hx hb hW 61 0 (pr_st (hW.rd hgm) (Nat.le_of_ble_eq_true rfl)) rfl hc16 dX1_cost_60 ?_
        exact hL61 σ15 (gA_ σ15 61 0 a2.toNatClampNeg) _ _ ls hW (lv_sub hl [] rfl) hs
      · have hs := ww_T hs hc17
        refine lv_iconst (v := (-1)) hx hb dX1_cost_48 (by decide) ?_
        refine lv_goto (tgt := 61) hx hb dX1_cost_49 (by decide) ?_
        exact hL61 σ15 (-1 : Int32) _ _ ls hW (lv_sub hl [] rfl) hs
set_option maxHeartbeats 4000000 in
theorem c_X1_way (g : wg_T) (hgm : gm g = true) (l : Launch) (L : ly_T) (σ : st_T) (a1 : Int32) (a2 : Int32) (a3 : Int32) (hst : l.stackTraces = false) (o_ : Nat ⊕ Int32) (σ_ : st_T) (hs : m_X1_way σ a1 a2 a3 = some (o_, σ_)) : XI g l yX1_way (ws_ yX1_way cX1_way 5 (some .int)) 9 171 (xc o_) (xs o_) [.ref (L 1 0), .int a1, .int a2, .int a3] L σ o_ σ_ := by
  refine xbody.met (by decide) (Nat.le_of_ble_eq_true rfl) ?_
  intro p e s m args below meth c ls hx hb hr hml hlocks hts hown hnm hout hW hl
  have hown : s.vm.findClass RX1 = some m.cls := hown
  have hl : lv_has ls 5 [(0, .ref (L 1 0)), (1, .int a1), (2, .int a2), (3, .int a3)] := hl
  unfold m_X1_way at hs
  have hL65 : ∀ (σ : st_T) (t0 : Int32) (H : Heap) (locs : List Loc) (ls : Array Slot), wv g L σ s H locs → lv_has ls 5 [] → m_X1_way_L65 σ t0 = some (o_, σ_) → W p l e (wrm 9 171 (xc o_) (xs o_)) s m args below meth c H locs 0 0 (vx_MQ below (wXi g L o_ σ_) (wX g o_ σ_ L) args s (xc o_) (xs o_) (fun q => gz g ≤ q)) (F0 m 65 ls [.int t0]) := by
    intro σ t0 H locs ls hW hl hs
    unfold m_X1_way_L65 at hs
    have hs := ww_S hs
    exact wx_i hx hb hr hlocks hW (congrArg Prod.fst hs) (congrArg Prod.snd hs) (Nat.zero_le _) (Nat.zero_le _) dX1_way_65
  refine lv_aload_n hx hb dX1_way_0 rfl (lv_at hl 0 rfl) ?_
  refine lv_iload_n hx hb dX1_way_1 rfl (lv_at hl 1 rfl) ?_
  obtain ⟨o3, hc1, hs⟩ := ww_bnd hs
  rcases o3 with k4 | v5
  · have hs := ww_sL hs
    have hs := ww_S hs
    have e1 : o_ = .inl k4 := congrArg Prod.fst hs
    have e2 : σ_ = σ := congrArg Prod.snd hs
    subst e1
    exact wx_prop (vx_runV (As := [.int a1]) (rest := []) ⟨hx, hb, hml, hown, hts⟩ (c_X1_herdAt g hgm l L σ a1 hst _ hc1) (cwV 1 hts (lw_V q1191 q1193 qs27 q111 q1194) rfl rfl rfl hd_X1_herdAt ⟨(Nat.le_of_ble_eq_true rfl), (Nat.le_of_ble_eq_true rfl)⟩) (ww_preV hW (pr_st (hW.rd hgm) (Nat.le_of_ble_eq_true rfl)) (obv_0 rfl) rfl) rfl rfl hl.1 rfl (lv_room (Nat.le_of_ble_eq_true rfl)) dX1_way_2 ⟨Nat.le_of_ble_eq_true rfl, Nat.le_of_ble_eq_true rfl⟩) no_r hW hlocks hout rfl e2 (Nat.le_of_ble_eq_true rfl) (Nat.le_of_ble_eq_true rfl)
  · have hs := ww_sR hs
    refine ww_xr0 (vx_runV (As := [.int a1]) (rest := []) ⟨hx, hb, hml, hown, hts⟩ (c_X1_herdAt g hgm l L σ a1 hst _ hc1) (cwV 1 hts (lw_V q1191 q1193 qs27 q111 q1194) rfl rfl rfl hd_X1_herdAt ⟨(Nat.le_of_ble_eq_true rfl), (Nat.le_of_ble_eq_true rfl)⟩) (ww_preV hW (pr_st (hW.rd hgm) (Nat.le_of_ble_eq_true rfl)) (obv_0 rfl) rfl) rfl rfl hl.1 rfl (lv_room (Nat.le_of_ble_eq_true rfl)) dX1_way_2 ⟨Nat.zero_le _, Nat.zero_le _⟩) hW (fun H locs hW => ?_)
    refine lv_astore (lv' := [(4, .ref (L 80 v5)), (0, .ref (L 1 0)), (1, .int a1), (2, .int a2), (3, .int a3)]) hx hb dX1_way_5 hl (by decide) rfl (fun ls hl => ?_)
    refine lv_iload_n hx hb dX1_way_7 rfl (lv_at hl 3 rfl) ?_
    obtain ⟨o8, hc6, hs⟩ := ww_bnd hs
    rcases o8 with k9 | v10
    · have hs := ww_sL hs
      have hs := ww_S hs
      have e1 : o_ = .inl k9 := congrArg Prod.fst hs
      have e2 : σ_ = σ := congrArg Prod.snd hs
      subst e1
      exact wx_prop (vx_runS (As := [.int a2]) (rest := []) ⟨hx, hb, hml, hown, hts⟩ (c_X1_cell g hgm l L σ a2 hst _ hc6) (va_cwS 1 hts (lw_S q821 q822 q111 q823) rfl rfl rfl hd_X1_cell.2 ⟨(Nat.le_of_ble_eq_true rfl), (Nat.le_of_ble_eq_true rfl)⟩) (ww_preS hW) rfl rfl hl.1 rfl (lv_room (Nat.le_of_ble_eq_true rfl)) dX1_way_8 ⟨Nat.le_of_ble_eq_true rfl, Nat.le_of_ble_eq_true rfl⟩) no_v hW hlocks hout rfl e2 (Nat.le_of_ble_eq_true rfl) (Nat.le_of_ble_eq_true rfl)
    · have hs := ww_sR hs
      refine ww_xv0 (vx_runS (As := [.int a2]) (rest := []) ⟨hx, hb, hml, hown, hts⟩ (c_X1_cell g hgm l L σ a2 hst _ hc6) (va_cwS 1 hts (lw_S q821 q822 q111 q823) rfl rfl rfl hd_X1_cell.2 ⟨(Nat.le_of_ble_eq_true rfl), (Nat.le_of_ble_eq_true rfl)⟩) (ww_preS hW) rfl rfl hl.1 rfl (lv_room (Nat.le_of_ble_eq_true rfl)) dX1_way_8 ⟨Nat.zero_le _, Nat.zero_le _⟩) hW (fun H locs hW => ?_)
      refine lv_aload_n hx hb dX1_way_11 rfl (lv_at hl 1 rfl) ?_
      refine gf_X1_57 hx hb hts hown hW (pr_st (hW.rd hgm) (Nat.le_of_ble_eq_true rfl)) (hW.fl hgm (pr_st (hW.rd hgm) (Nat.le_of_ble_eq_true rfl)) 4 (by decide) rfl (by decide)) dX1_way_12 ?_
      refine lv_aload_n hx hb dX1_way_15 rfl (lv_at hl 1 rfl) ?_
      refine gf_X1_44 hx hb hts hown hW (pr_st (hW.rd hgm) (Nat.le_of_ble_eq_true rfl)) (hW.fl hgm (pr_st (hW.rd hgm) (Nat.le_of_ble_eq_true rfl)) 1 (by decide) rfl (by decide)) dX1_way_16 ?_
      refine lv_aload hx hb dX1_way_19 (lv_at hl 0 rfl) ?_
      obtain ⟨hc11, hs⟩ := ww_chk hs
      refine gf_X1_199 hx hb hts hown hW (pr_dy hc11 rfl rfl) dX1_way_21 ?_
      refine lv_iload_n hx hb dX1_way_24 rfl (lv_at hl 3 rfl) ?_
      refine lv_aload_n hx hb dX1_way_25 rfl (lv_at hl 1 rfl) ?_
      refine gf_X1_156 hx hb hts hown hW (pr_st (hW.rd hgm) (Nat.le_of_ble_eq_true rfl)) (hW.fl hgm (pr_st (hW.rd hgm) (Nat.le_of_ble_eq_true rfl)) 31 (by decide) rfl (by decide)) dX1_way_26 ?_
      obtain ⟨hc12, hs⟩ := ww_chk hs
      refine gf_X1_272 hx hb hts hown hW (pr_dy hc12 rfl rfl) dX1_way_29 ?_
      obtain ⟨σ15, hc13, hs⟩ := ww_bnd hs
      refine ww_cv (va_runV (As := [.ref (L 50 0), .int (gF_ σ 80 0 v5), .int a2, .int (gF_ σ 87 3 (gP_ σ 1 31 0))]) (rest := []) ⟨hx, hb, hml, hown, hts⟩ (c_X3_goes g hgm l L σ 0 (gF_ σ 80 0 v5) a2 (gF_ σ 87 3 (gP_ σ 1 31 0)) _ hc13) (cwV 4 hts (lw_V q574 q575 q576 q113 q577) rfl rfl rfl hd_X3_goes ⟨(Nat.le_of_ble_eq_true rfl), (Nat.le_of_ble_eq_true rfl)⟩) (ww_preV hW (pr_st (hW.rd hgm) (Nat.le_of_ble_eq_true rfl)) (obv_0 rfl) rfl) rfl rfl hl.1 rfl (lv_room (Nat.le_of_ble_eq_true rfl)) dX1_way_32 ⟨Nat.le_of_ble_eq_true rfl, Nat.le_of_ble_eq_true rfl⟩) hW (fun H locs hW => ?_)
      refine lv_iload_n hx hb dX1_way_35 rfl (lv_at hl 4 rfl) ?_
      refine lv_iconst (v := 0) hx hb dX1_way_36 (by decide) ?_
      refine lv_aload_n hx hb dX1_way_37 rfl (lv_at hl 1 rfl) ?_
      refine gf_X1_57 hx hb hts hown hW (pr_st (hW.rd hgm) (Nat.le_of_ble_eq_true rfl)) (hW.fl hgm (pr_st (hW.rd hgm) (Nat.le_of_ble_eq_true rfl)) 4 (by decide) rfl (by decide)) dX1_way_38 ?_
      refine gf_X1_287 hx hb hts hown hW (pr_st (hW.rd hgm) (Nat.le_of_ble_eq_true rfl)) dX1_way_41 ?_
      refine lv_iconst (v := 1) hx hb dX1_way_44 (by decide) ?_
      refine lv_isub hx hb dX1_way_45 ?_
      obtain ⟨v18, hc16, hs⟩ := ww_bnd hs
      refine ww_ci (va_runS (As := [.int a3, .int (0 : Int32), .int ((gF_ σ15 60 3 0) - (1 : Int32))]) (rest := []) ⟨hx, hb, hml, hown, hts⟩ (c_X1_in g hgm l L σ15 a3 (0 : Int32) ((gF_ σ15 60 3 0) - (1 : Int32)) _ hc16) (va_cwS 3 hts (lw_S q824 q825 q111 q826) rfl rfl rfl hd_X1_in.2 ⟨(Nat.le_of_ble_eq_true rfl), (Nat.le_of_ble_eq_true rfl)⟩) (ww_preS hW) rfl rfl hl.1 rfl (lv_room (Nat.le_of_ble_eq_true rfl)) dX1_way_46 ⟨Nat.le_of_ble_eq_true rfl, Nat.le_of_ble_eq_true rfl⟩) hW (fun H locs hW => ?_)
      refine lv_if_eq (tgt := 64) hx hb dX1_way_49 (by decide) (fun hc19 => ?_) (fun hc19 => ?_)
      · have hs := ww_T hs hc19
        refine lv_iconst (v := (-1)) hx hb dX1_way_64 (by decide) ?_
        exact hL65 σ15 (-1 : Int32) _ _ ls hW (lv_sub hl [] rfl) hs
      · have hs := ww_F hs hc19
        refine lv_aload_n hx hb dX1_way_52 rfl (lv_at hl 1 rfl) ?_
        refine gf_X1_57 hx hb hts hown hW (pr_st (hW.rd hgm) (Nat.le_of_ble_eq_true rfl)) (hW.fl hgm (pr_st (hW.rd hgm) (Nat.le_of_ble_eq_true rfl)) 4 (by decide) rfl (by decide)) dX1_way_53 ?_
        refine gf_X1_290 hx hb hts hown hW (pr_st (hW.rd hgm) (Nat.le_of_ble_eq_true rfl)) (hW.fl hgm (pr_st (hW.rd hgm) (Nat.le_of_ble_eq_true rfl)) 1 (by decide) rfl (by decide)) dX1_way_56 ?_
        refine lv_iload_n hx hb dX1_way_59 rfl (lv_at hl 4 rfl) ?_
        obtain ⟨hc20, hs⟩ := ww_chk hs
        refine ww_iald hx hb hW 62 0 (pr_st (hW.rd hgm) (Nat.le_of_ble_eq_true rfl)) rfl hc20 dX1_way_60 ?_
        refine lv_goto (tgt := 65) hx hb dX1_way_61 (by decide) ?_
        exact hL65 σ15 (gA_ σ15 62 0 a3.toNatClampNeg) _ _ ls hW (lv_sub hl [] rfl) hs
set_option maxHeartbeats 4000000 in
theorem c_X1_near (g : wg_T) (hgm : gm g = true) (l : Launch) (L : ly_T) (σ : st_T) (a1 : Int32) (a2 : Int32) (σ_ : st_T) (hs : m_X1_near σ a1 a2 = some σ_) : CV g l yX1_near (ws_ yX1_near cX1_near 4 none) 4 109 0 0 [.ref (L 1 0), .int a1, .int a2] L σ σ_ := by
  refine wbody.met (by decide) (Nat.le_of_ble_eq_true rfl) ?_
  intro p e s m args below meth c ls hx hb hr hml hlocks hts hown hnm hW hl
  have hown : s.vm.findClass RX1 = some m.cls := hown
  have hl : lv_has ls 4 [(0, .ref (L 1 0)), (1, .int a1), (2, .int a2)] := hl
  unfold m_X1_near at hs
  have hL18 : ∀ (n18 : Nat), ∀ (σ : st_T) (x2 : Int32) (x3 : Int32) (H : Heap) (locs : List Loc) (ls : Array Slot), wv g L σ s H locs → lv_has ls 4 [(0, .ref (L 1 0)), (2, .int x2), (3, .int x3)] → (m_X1_near_L18 n18) σ x2 x3 = some σ_ → W p l e (wrm 4 109 0 0) s m args below meth c H locs 0 0 (MQ below (wQv g L σ_) args s 0 0 (fun q => gz g ≤ q)) (F0 m 18 ls []) := by
    intro n18
    induction n18 with
    | zero => intro σ x2 x3 H locs ls hW hl hs; rw [m_X1_near_L18] at hs; cases hs
    | succ n18 ih18 =>
      have hL49 : ∀ (σ : st_T) (x2 : Int32) (x3 : Int32) (t1 : Int32) (t2 : Int32) (t3 : Int32) (H : Heap) (locs : List Loc) (ls : Array Slot), wv g L σ s H locs → lv_has ls 4 [(0, .ref (L 1 0)), (2, .int x2), (3, .int x3)] → (m_X1_near_L49 (m_X1_near_L18 n18)) σ x2 x3 t1 t2 t3 = some σ_ → W p l e (wrm 4 109 0 0) s m args below meth c H locs 0 0 (MQ below (wQv g L σ_) args s 0 0 (fun q => gz g ≤ q)) (F0 m 49 ls [.int t3, .int t2, .int t1, .ref (L 38 0)]) := by
        intro σ x2 x3 t1 t2 t3 H locs ls hW hl hs
        unfold m_X1_near_L49 at hs
        refine lv_iand hx hb dX1_near_49 ?_
        obtain ⟨hc1, hs⟩ := ww_chk hs
        obtain ⟨σ2, e3, hs⟩ := ww_let hs
        refine ww_zast hx hb hW 38 0 (pr_st (hW.rd hgm) (Nat.le_of_ble_eq_true rfl)) rfl hc1 dX1_near_50 (fun H locs hW => ?_)
        have hW : wv g L σ2 s H locs := by rw [e3]; exact hW
        refine lv_iinc (v := (x3 + (1 : Int32))) (lv' := [(3, .int (x3 + (1 : Int32))), (0, .ref (L 1 0)), (2, .int x2)]) hx hb dX1_near_51 hl (k := 2) rfl rfl (by decide) rfl (fun ls hl => ?_)
        refine lv_goto (tgt := 18) hx hb dX1_near_54 (by decide) ?_
        exact ih18 σ2 x2 (x3 + (1 : Int32)) _ _ ls hW (lv_sub hl [1, 2, 0] rfl) hs
      intro σ x2 x3 H locs ls hW hl hs
      rw [m_X1_near_L18] at hs
      refine lv_iload_n hx hb dX1_near_18 rfl (lv_at hl 2 rfl) ?_
      refine lv_bipush (v := 64) hx hb dX1_near_19 (by decide) ?_
      refine lv_icmp_ge (tgt := 57) hx hb dX1_near_21 (by decide) (fun hc4 => ?_) (fun hc4 => ?_)
      · have hs := ww_T hs hc4
        have hs := ww_S hs
        exact we_v hx hb hr hlocks hW hs (Nat.le_of_ble_eq_true rfl) (Nat.le_of_ble_eq_true rfl) dX1_near_57
      · have hs := ww_F hs hc4
        refine lv_aload_n hx hb dX1_near_24 rfl (lv_at hl 0 rfl) ?_
        refine gf_X1_140 hx hb hts hown hW (pr_st (hW.rd hgm) (Nat.le_of_ble_eq_true rfl)) (hW.fl hgm (pr_st (hW.rd hgm) (Nat.le_of_ble_eq_true rfl)) 28 (by decide) rfl (by decide)) dX1_near_25 ?_
        refine lv_iload_n hx hb dX1_near_28 rfl (lv_at hl 2 rfl) ?_
        refine lv_dup2_11 hx hb dX1_near_29 rfl rfl ?_
        obtain ⟨hc5, hs⟩ := ww_chk hs
        refine ww_zald hx hb hW 38 0 (pr_st (hW.rd hgm) (Nat.le_of_ble_eq_true rfl)) rfl hc5 dX1_near_30 ?_
        refine lv_aload_n hx hb dX1_near_31 rfl (lv_at hl 0 rfl) ?_
        refine gf_X1_64 hx hb hts hown hW (pr_st (hW.rd hgm) (Nat.le_of_ble_eq_true rfl)) (hW.fl hgm (pr_st (hW.rd hgm) (Nat.le_of_ble_eq_true rfl)) 5 (by decide) rfl (by decide)) dX1_near_32 ?_
        refine gf_X1_449 hx hb hts hown hW (pr_st (hW.rd hgm) (Nat.le_of_ble_eq_true rfl)) (hW.fl hgm (pr_st (hW.rd hgm) (Nat.le_of_ble_eq_true rfl)) 0 (by decide) rfl (by decide)) dX1_near_35 ?_
        refine lv_iload_n hx hb dX1_near_38 rfl (lv_at hl 2 rfl) ?_
        refine ww_iald hx hb hW 66 0 (pr_st (hW.rd hgm) (Nat.le_of_ble_eq_true rfl)) rfl hc5 dX1_near_39 ?_
        refine lv_iload_n hx hb dX1_near_40 rfl (lv_at hl 1 rfl) ?_
        refine lv_icmp_gt (tgt := 48) hx hb dX1_near_41 (by decide) (fun hc6 => ?_) (fun hc6 => ?_)
        · have hs := ww_T hs hc6
          refine lv_iconst (v := 0) hx hb dX1_near_48 (by decide) ?_
          exact hL49 σ x2 x3 x3 (gA_ σ 38 0 x3.toNatClampNeg) (0 : Int32) _ _ ls hW (lv_sub hl [0, 1, 2] rfl) hs
        · have hs := ww_F hs hc6
          refine lv_iconst (v := 1) hx hb dX1_near_44 (by decide) ?_
          refine lv_goto (tgt := 49) hx hb dX1_near_45 (by decide) ?_
          exact hL49 σ x2 x3 x3 (gA_ σ 38 0 x3.toNatClampNeg) (1 : Int32) _ _ ls hW (lv_sub hl [0, 1, 2] rfl) hs
  refine lv_aload_n hx hb dX1_near_0 rfl (lv_at hl 0 rfl) ?_
  obtain ⟨σ9, hc7, hs⟩ := ww_bnd hs
  refine ww_cv (va_runV (As := []) (rest := []) ⟨hx, hb, hml, hown, hts⟩ (c_X1_rivers g hgm l L σ  _ hc7) (cwV 0 hts (lw_V q1504 q1506 qs36 q111 q1507) rfl rfl rfl hd_X1_rivers ⟨(Nat.le_of_ble_eq_true rfl), (Nat.le_of_ble_eq_true rfl)⟩) (ww_preV hW (pr_st (hW.rd hgm) (Nat.le_of_ble_eq_true rfl)) (obv_0 rfl) rfl) rfl rfl hl.1 rfl (lv_room (Nat.le_of_ble_eq_true rfl)) dX1_near_1 ⟨Nat.le_of_ble_eq_true rfl, Nat.le_of_ble_eq_true rfl⟩) hW (fun H locs hW => ?_)
  refine lv_aload_n hx hb dX1_near_4 rfl (lv_at hl 0 rfl) ?_
  refine gf_X1_64 hx hb hts hown hW (pr_st (hW.rd hgm) (Nat.le_of_ble_eq_true rfl)) (hW.fl hgm (pr_st (hW.rd hgm) (Nat.le_of_ble_eq_true rfl)) 5 (by decide) rfl (by decide)) dX1_near_5 ?_
  refine lv_iload_n hx hb dX1_near_8 rfl (lv_at hl 1 rfl) ?_
  refine lv_aload_n hx hb dX1_near_9 rfl (lv_at hl 0 rfl) ?_
  refine gf_X1_143 hx hb hts hown hW (pr_st (hW.rd hgm) (Nat.le_of_ble_eq_true rfl)) (hW.fl hgm (pr_st (hW.rd hgm) (Nat.le_of_ble_eq_true rfl)) 29 (by decide) rfl (by decide)) dX1_near_10 ?_
  obtain ⟨σ12, hc10, hs⟩ := ww_bnd hs
  refine ww_cv (va_runV (As := [.int a1, .ref (L 39 0)]) (rest := []) ⟨hx, hb, hml, hown, hts⟩ (c_X4_from g hgm l L σ9 a1 39 0 _ hc10) (cwV 2 hts (lw_V q1508 q1509 q1510 q114 q1511) rfl rfl rfl hd_X4_from ⟨(Nat.le_of_ble_eq_true rfl), (Nat.le_of_ble_eq_true rfl)⟩) (ww_preV hW (pr_st (hW.rd hgm) (Nat.le_of_ble_eq_true rfl)) (obv_0 rfl) rfl) rfl rfl hl.1 rfl (lv_room (Nat.le_of_ble_eq_true rfl)) dX1_near_13 ⟨Nat.le_of_ble_eq_true rfl, Nat.le_of_ble_eq_true rfl⟩) hW (fun H locs hW => ?_)
  refine lv_iconst (v := 0) hx hb dX1_near_16 (by decide) ?_
  refine lv_istore_n (lv' := [(3, .int (0 : Int32)), (0, .ref (L 1 0)), (1, .int a1), (2, .int a2)]) hx hb dX1_near_17 rfl hl (by decide) rfl (fun ls hl => ?_)
  exact hL18 fu_ σ12 a2 (0 : Int32) _ _ ls hW (lv_sub hl [1, 3, 0] rfl) hs
set_option maxHeartbeats 4000000 in
theorem c_X1_comes (g : wg_T) (hgm : gm g = true) (l : Launch) (L : ly_T) (σ : st_T) (i1 : Nat) (a2 : Int32) (r_ : Int32) (σ_ : st_T) (hs : m_X1_comes σ i1 a2 = some (r_, σ_)) : CI g l yX1_comes (ws_ yX1_comes cX1_comes 5 (some .int)) 7 185 0 0 [.ref (L 1 0), .ref (L 50 i1), .int a2] L σ r_ σ_ := by
  refine wbody.met (by decide) (Nat.le_of_ble_eq_true rfl) ?_
  intro p e s m args below meth c ls hx hb hr hml hlocks hts hown hnm hW hl
  have hown : s.vm.findClass RX1 = some m.cls := hown
  have hl : lv_has ls 5 [(0, .ref (L 1 0)), (1, .ref (L 50 i1)), (2, .int a2)] := hl
  unfold m_X1_comes at hs
  have hL5 : ∀ (n5 : Nat), ∀ (σ : st_T) (x2 : Int32) (x3 : Int32) (x4 : Int32) (H : Heap) (locs : List Loc) (ls : Array Slot), wv g L σ s H locs → lv_has ls 5 [(0, .ref (L 1 0)), (1, .ref (L 50 i1)), (2, .int x2), (3, .int x3), (4, .int x4)] → (m_X1_comes_L5 i1 n5) σ x2 x3 x4 = some (r_, σ_) → W p l e (wrm 7 185 0 0) s m args below meth c H locs 0 0 (MQ below (wQi g L r_ σ_) args s 0 0 (fun q => gz g ≤ q)) (F0 m 5 ls []) := by
    intro n5
    induction n5 with
    | zero => intro σ x2 x3 x4 H locs ls hW hl hs; rw [m_X1_comes_L5] at hs; cases hs
    | succ n5 ih5 =>
      intro σ x2 x3 x4 H locs ls hW hl hs
      rw [m_X1_comes_L5] at hs
      refine lv_iload hx hb dX1_comes_5 (lv_at hl 4 rfl) ?_
      refine lv_aload_n hx hb dX1_comes_7 rfl (lv_at hl 0 rfl) ?_
      refine gf_X1_71 hx hb hts hown hW (pr_st (hW.rd hgm) (Nat.le_of_ble_eq_true rfl)) (hW.fl hgm (pr_st (hW.rd hgm) (Nat.le_of_ble_eq_true rfl)) 6 (by decide) rfl (by decide)) dX1_comes_8 ?_
      refine ww_ci (va_runV (As := []) (rest := [.int x4]) ⟨hx, hb, hml, hown, hts⟩ (c_AL_size g hgm l L σ 70 0 71 rfl rfl (pr_st (hW.rd hgm) (Nat.le_of_ble_eq_true rfl))) (cwV 0 hts (lw_V q514 q515 q516 q117 q517) rfl rfl rfl hd_J2_size ⟨(Nat.le_of_ble_eq_true rfl), (Nat.le_of_ble_eq_true rfl)⟩) (ww_preV hW (pr_st (hW.rd hgm) (Nat.le_of_ble_eq_true rfl)) (obv_0 rfl) rfl) rfl rfl hl.1 rfl (lv_room (Nat.le_of_ble_eq_true rfl)) dX1_comes_11 ⟨Nat.zero_le _, Nat.zero_le _⟩) hW (fun H locs hW => ?_)
      refine lv_icmp_ge (tgt := 50) hx hb dX1_comes_14 (by decide) (fun hc1 => ?_) (fun hc1 => ?_)
      · have hs := ww_T hs hc1
        refine lv_iload_n hx hb dX1_comes_50 rfl (lv_at hl 3 rfl) ?_
        have hs := ww_S hs
        exact we_i hx hb hr hlocks hW (congrArg Prod.fst hs) (congrArg Prod.snd hs) (Nat.le_of_ble_eq_true rfl) (Nat.le_of_ble_eq_true rfl) dX1_comes_51
      · have hs := ww_F hs hc1
        refine lv_iload_n hx hb dX1_comes_17 rfl (lv_at hl 3 rfl) ?_
        refine lv_aload_n hx hb dX1_comes_18 rfl (lv_at hl 0 rfl) ?_
        refine lv_aload_n hx hb dX1_comes_19 rfl (lv_at hl 1 rfl) ?_
        refine lv_aload_n hx hb dX1_comes_20 rfl (lv_at hl 0 rfl) ?_
        refine gf_X1_71 hx hb hts hown hW (pr_st (hW.rd hgm) (Nat.le_of_ble_eq_true rfl)) (hW.fl hgm (pr_st (hW.rd hgm) (Nat.le_of_ble_eq_true rfl)) 6 (by decide) rfl (by decide)) dX1_comes_21 ?_
        refine lv_iload hx hb dX1_comes_24 (lv_at hl 4 rfl) ?_
        obtain ⟨hc2, hs⟩ := ww_chk hs
        refine ww_cr (va_runV (As := [.int x4]) (rest := [.ref (L 50 i1), .ref (L 1 0), .int x3]) ⟨hx, hb, hml, hown, hts⟩ (c_AL_get g hgm l L σ 70 0 71 80 x4 rfl rfl rfl (pr_st (hW.rd hgm) (Nat.le_of_ble_eq_true rfl)) hc2) (cwV 1 hts (lw_V q518 q519 q520 q117 q521) rfl rfl rfl hd_J2_get ⟨(Nat.le_of_ble_eq_true rfl), (Nat.le_of_ble_eq_true rfl)⟩) (ww_preV hW (pr_st (hW.rd hgm) (Nat.le_of_ble_eq_true rfl)) (obv_0 rfl) rfl) rfl rfl hl.1 rfl (lv_room (Nat.le_of_ble_eq_true rfl)) dX1_comes_26 ⟨Nat.zero_le _, Nat.zero_le _⟩) hW (fun H locs hW => ?_)
        obtain ⟨hc3, hs⟩ := ww_chk hs
        refine ww_castS hx hb hown (hts _ q532) hW (pr_dy hc3 rfl rfl) (obv_0 rfl) rfl dX1_comes_29 ?_
        refine lv_iload_n hx hb dX1_comes_32 rfl (lv_at hl 2 rfl) ?_
        refine lv_bipush (v := 30) hx hb dX1_comes_33 (by decide) ?_
        refine lv_idiv hx hb dX1_comes_35 (by decide) ?_
        refine lv_bipush (v := 12) hx hb dX1_comes_36 (by decide) ?_
        refine lv_irem hx hb dX1_comes_38 (by decide) ?_
        obtain ⟨v6, σ7, hc4, hs⟩ := ww_bn2 hs
        refine ww_ci (va_runV (As := [.ref (L 50 i1), .ref (L 80 (gP_ σ 71 (2 + x4.toNatClampNeg) 0)), .int ((x2 / (30 : Int32)) - (x2 / (30 : Int32)) / (12 : Int32) * (12 : Int32))]) (rest := [.int x3]) ⟨hx, hb, hml, hown, hts⟩ (c_X1_goes g hgm l L σ i1 (gP_ σ 71 (2 + x4.toNatClampNeg) 0) ((x2 / (30 : Int32)) - (x2 / (30 : Int32)) / (12 : Int32) * (12 : Int32)) _ _ hc4) (cwV 3 hts (lw_V q533 q535 qs2 q111 q536) rfl rfl rfl hd_X1_goes ⟨(Nat.le_of_ble_eq_true rfl), (Nat.le_of_ble_eq_true rfl)⟩) (ww_preV hW (pr_st (hW.rd hgm) (Nat.le_of_ble_eq_true rfl)) (obv_0 rfl) rfl) rfl rfl hl.1 rfl (lv_room (Nat.le_of_ble_eq_true rfl)) dX1_comes_39 ⟨Nat.le_of_ble_eq_true rfl, Nat.le_of_ble_eq_true rfl⟩) hW (fun H locs hW => ?_)
        refine lv_iadd hx hb dX1_comes_42 ?_
        refine lv_istore_n (lv' := [(3, .int (x3 + v6)), (0, .ref (L 1 0)), (1, .ref (L 50 i1)), (2, .int x2), (4, .int x4)]) hx hb dX1_comes_43 rfl hl (by decide) rfl (fun ls hl => ?_)
        refine lv_iinc (v := (x4 + (1 : Int32))) (lv' := [(4, .int (x4 + (1 : Int32))), (3, .int (x3 + v6)), (0, .ref (L 1 0)), (1, .ref (L 50 i1)), (2, .int x2)]) hx hb dX1_comes_44 hl (k := 4) rfl rfl (by decide) rfl (fun ls hl => ?_)
        refine lv_goto (tgt := 5) hx hb dX1_comes_47 (by decide) ?_
        exact ih5 σ7 x2 (x3 + v6) (x4 + (1 : Int32)) _ _ ls hW (lv_sub hl [2, 3, 4, 1, 0] rfl) hs
  refine lv_iconst (v := 0) hx hb dX1_comes_0 (by decide) ?_
  refine lv_istore_n (lv' := [(3, .int (0 : Int32)), (0, .ref (L 1 0)), (1, .ref (L 50 i1)), (2, .int a2)]) hx hb dX1_comes_1 rfl hl (by decide) rfl (fun ls hl => ?_)
  refine lv_iconst (v := 0) hx hb dX1_comes_2 (by decide) ?_
  refine lv_istore (lv' := [(4, .int (0 : Int32)), (3, .int (0 : Int32)), (0, .ref (L 1 0)), (1, .ref (L 50 i1)), (2, .int a2)]) hx hb dX1_comes_3 hl (by decide) rfl (fun ls hl => ?_)
  exact hL5 fu_ σ a2 (0 : Int32) (0 : Int32) _ _ ls hW (lv_sub hl [2, 3, 4, 1, 0] rfl) hs
set_option maxHeartbeats 4000000 in
theorem c_X1_foretells (g : wg_T) (hgm : gm g = true) (l : Launch) (L : ly_T) (σ : st_T) (a1 : Int32) (r_ : Int32) (σ_ : st_T) (hs : m_X1_foretells σ a1 = some (r_, σ_)) : CI g l yX1_foretells (ws_ yX1_foretells cX1_foretells 4 (some .int)) 8 209 0 0 [.ref (L 1 0), .int a1] L σ r_ σ_ := by
  refine wbody.met (by decide) (Nat.le_of_ble_eq_true rfl) ?_
  intro p e s m args below meth c ls hx hb hr hml hlocks hts hown hnm hW hl
  have hown : s.vm.findClass RX1 = some m.cls := hown
  have hl : lv_has ls 4 [(0, .ref (L 1 0)), (1, .int a1)] := hl
  unfold m_X1_foretells at hs
  have hL10 : ∀ (n10 : Nat), ∀ (σ : st_T) (x1 : Int32) (x2 : Int32) (H : Heap) (locs : List Loc) (ls : Array Slot), wv g L σ s H locs → lv_has ls 4 [(0, .ref (L 1 0)), (1, .int x1), (2, .int x2)] → (m_X1_foretells_L10 n10) σ x1 x2 = some (r_, σ_) → W p l e (wrm 8 209 0 0) s m args below meth c H locs 0 0 (MQ below (wQi g L r_ σ_) args s 0 0 (fun q => gz g ≤ q)) (F0 m 10 ls []) := by
    intro n10
    induction n10 with
    | zero => intro σ x1 x2 H locs ls hW hl hs; rw [m_X1_foretells_L10] at hs; cases hs
    | succ n10 ih10 =>
      have hL41 : ∀ (n41 : Nat), ∀ (σ : st_T) (x1 : Int32) (x2 : Int32) (x3 : Int32) (H : Heap) (locs : List Loc) (ls : Array Slot), wv g L σ s H locs → lv_has ls 4 [(0, .ref (L 1 0)), (1, .int x1), (2, .int x2), (3, .int x3)] → (m_X1_foretells_L41 n41) σ x1 x2 x3 = some (r_, σ_) → W p l e (wrm 8 209 0 0) s m args below meth c H locs 0 0 (MQ below (wQi g L r_ σ_) args s 0 0 (fun q => gz g ≤ q)) (F0 m 41 ls []) := by
        intro n41
        induction n41 with
        | zero => intro σ x1 x2 x3 H locs ls hW hl hs; rw [m_X1_foretells_L41] at hs; cases hs
        | succ n41 ih41 =>
          intro σ x1 x2 x3 H locs ls hW hl hs
          rw [m_X1_foretells_L41] at hs
          refine lv_iload_n hx hb dX1_foretells_41 rfl (lv_at hl 3 rfl) ?_
          refine lv_iload_n hx hb dX1_foretells_42 rfl (lv_at hl 1 rfl) ?_
          refine lv_icmp_ge (tgt := 83) hx hb dX1_foretells_43 (by decide) (fun hc1 => ?_) (fun hc1 => ?_)
          · have hs := ww_T hs hc1
            refine lv_iload_n hx hb dX1_foretells_83 rfl (lv_at hl 2 rfl) ?_
            have hs := ww_S hs
            exact we_i hx hb hr hlocks hW (congrArg Prod.fst hs) (congrArg Prod.snd hs) (Nat.le_of_ble_eq_true rfl) (Nat.le_of_ble_eq_true rfl) dX1_foretells_84
          · have hs := ww_F hs hc1
            refine lv_iload_n hx hb dX1_foretells_46 rfl (lv_at hl 2 rfl) ?_
            refine lv_aload_n hx hb dX1_foretells_47 rfl (lv_at hl 0 rfl) ?_
            refine lv_aload_n hx hb dX1_foretells_48 rfl (lv_at hl 0 rfl) ?_
            refine gf_X1_48 hx hb hts hown hW (pr_st (hW.rd hgm) (Nat.le_of_ble_eq_true rfl)) (hW.fl hgm (pr_st (hW.rd hgm) (Nat.le_of_ble_eq_true rfl)) 2 (by decide) rfl (by decide)) dX1_foretells_49 ?_
            refine lv_aload_n hx hb dX1_foretells_52 rfl (lv_at hl 0 rfl) ?_
            refine gf_X1_325 hx hb hts hown hW (pr_st (hW.rd hgm) (Nat.le_of_ble_eq_true rfl)) dX1_foretells_53 ?_
            refine lv_iload_n hx hb dX1_foretells_56 rfl (lv_at hl 3 rfl) ?_
            refine lv_iadd hx hb dX1_foretells_57 ?_
            obtain ⟨v4, σ5, hc2, hs⟩ := ww_bn2 hs
            refine ww_ci (va_runV (As := [.ref (L 50 1), .int ((gF_ σ 1 33 0) + x3)]) (rest := [.int x2]) ⟨hx, hb, hml, hown, hts⟩ (c_X1_comes g hgm l L σ 1 ((gF_ σ 1 33 0) + x3) _ _ hc2) (cwV 2 hts (lw_V q510 q512 qs1 q111 q513) rfl rfl rfl hd_X1_comes ⟨(Nat.le_of_ble_eq_true rfl), (Nat.le_of_ble_eq_true rfl)⟩) (ww_preV hW (pr_st (hW.rd hgm) (Nat.le_of_ble_eq_true rfl)) (obv_0 rfl) rfl) rfl rfl hl.1 rfl (lv_room (Nat.le_of_ble_eq_true rfl)) dX1_foretells_58 ⟨Nat.le_of_ble_eq_true rfl, Nat.le_of_ble_eq_true rfl⟩) hW (fun H locs hW => ?_)
            refine lv_iadd hx hb dX1_foretells_61 ?_
            refine lv_istore_n (lv' := [(2, .int (x2 + v4)), (0, .ref (L 1 0)), (1, .int x1), (3, .int x3)]) hx hb dX1_foretells_62 rfl hl (by decide) rfl (fun ls hl => ?_)
            refine lv_aload_n hx hb dX1_foretells_63 rfl (lv_at hl 1 rfl) ?_
            refine gf_X1_48 hx hb hts hown hW (pr_st (hW.rd hgm) (Nat.le_of_ble_eq_true rfl)) (hW.fl hgm (pr_st (hW.rd hgm) (Nat.le_of_ble_eq_true rfl)) 2 (by decide) rfl (by decide)) dX1_foretells_64 ?_
            refine lv_aload_n hx hb dX1_foretells_67 rfl (lv_at hl 1 rfl) ?_
            refine gf_X1_156 hx hb hts hown hW (pr_st (hW.rd hgm) (Nat.le_of_ble_eq_true rfl)) (hW.fl hgm (pr_st (hW.rd hgm) (Nat.le_of_ble_eq_true rfl)) 31 (by decide) rfl (by decide)) dX1_foretells_68 ?_
            obtain ⟨hc6, hs⟩ := ww_chk hs
            refine gf_X1_332 hx hb hts hown hW (pr_dy hc6 rfl rfl) dX1_foretells_71 ?_
            obtain ⟨σ9, hc7, hs⟩ := ww_bnd hs
            refine ww_cv (va_runV (As := [.int (gF_ σ5 87 5 (gP_ σ5 1 31 0))]) (rest := []) ⟨hx, hb, hml, hown, hts⟩ (c_X2_wears g hgm l L σ5 1 (gF_ σ5 87 5 (gP_ σ5 1 31 0)) _ hc7) (cwV 1 hts (lw_V q591 q592 q593 q112 q594) rfl rfl rfl hd_X2_wears ⟨(Nat.le_of_ble_eq_true rfl), (Nat.le_of_ble_eq_true rfl)⟩) (ww_preV hW (pr_st (hW.rd hgm) (Nat.le_of_ble_eq_true rfl)) (obv_0 rfl) rfl) rfl rfl hl.1 rfl (lv_room (Nat.le_of_ble_eq_true rfl)) dX1_foretells_74 ⟨Nat.le_of_ble_eq_true rfl, Nat.le_of_ble_eq_true rfl⟩) hW (fun H locs hW => ?_)
            refine lv_iinc (v := (x3 + (1 : Int32))) (lv' := [(3, .int (x3 + (1 : Int32))), (2, .int (x2 + v4)), (0, .ref (L 1 0)), (1, .int x1)]) hx hb dX1_foretells_77 hl (k := 3) rfl rfl (by decide) rfl (fun ls hl => ?_)
            refine lv_goto (tgt := 41) hx hb dX1_foretells_80 (by decide) ?_
            exact ih41 σ9 x1 (x2 + v4) (x3 + (1 : Int32)) _ _ ls hW (lv_sub hl [2, 3, 1, 0] rfl) hs
      intro σ x1 x2 H locs ls hW hl hs
      rw [m_X1_foretells_L10] at hs
      refine lv_iload_n hx hb dX1_foretells_10 rfl (lv_at hl 2 rfl) ?_
      refine lv_bipush (v := 10) hx hb dX1_foretells_11 (by decide) ?_
      refine lv_icmp_ge (tgt := 29) hx hb dX1_foretells_13 (by decide) (fun hc10 => ?_) (fun hc10 => ?_)
      · have hs := ww_T hs hc10
        refine lv_aload_n hx hb dX1_foretells_29 rfl (lv_at hl 0 rfl) ?_
        refine lv_aload_n hx hb dX1_foretells_30 rfl (lv_at hl 0 rfl) ?_
        refine gf_X1_48 hx hb hts hown hW (pr_st (hW.rd hgm) (Nat.le_of_ble_eq_true rfl)) (hW.fl hgm (pr_st (hW.rd hgm) (Nat.le_of_ble_eq_true rfl)) 2 (by decide) rfl (by decide)) dX1_foretells_31 ?_
        obtain ⟨σ13, hc11, hs⟩ := ww_bnd hs
        refine ww_cv (va_runV (As := [.ref (L 50 1)]) (rest := []) ⟨hx, hb, hml, hown, hts⟩ (c_X1_watch g hgm l L σ 1 _ hc11) (cwV 1 hts (lw_V q496 q498 qs0 q111 q499) rfl rfl rfl hd_X1_watch ⟨(Nat.le_of_ble_eq_true rfl), (Nat.le_of_ble_eq_true rfl)⟩) (ww_preV hW (pr_st (hW.rd hgm) (Nat.le_of_ble_eq_true rfl)) (obv_0 rfl) rfl) rfl rfl hl.1 rfl (lv_room (Nat.le_of_ble_eq_true rfl)) dX1_foretells_34 ⟨Nat.le_of_ble_eq_true rfl, Nat.le_of_ble_eq_true rfl⟩) hW (fun H locs hW => ?_)
        refine lv_iconst (v := 0) hx hb dX1_foretells_37 (by decide) ?_
        refine lv_istore_n (lv' := [(2, .int (0 : Int32)), (0, .ref (L 1 0)), (1, .int x1)]) hx hb dX1_foretells_38 rfl hl (by decide) rfl (fun ls hl => ?_)
        refine lv_iconst (v := 0) hx hb dX1_foretells_39 (by decide) ?_
        refine lv_istore_n (lv' := [(3, .int (0 : Int32)), (2, .int (0 : Int32)), (0, .ref (L 1 0)), (1, .int x1)]) hx hb dX1_foretells_40 rfl hl (by decide) rfl (fun ls hl => ?_)
        exact hL41 fu_ σ13 x1 (0 : Int32) (0 : Int32) _ _ ls hW (lv_sub hl [2, 3, 1, 0] rfl) hs
      · have hs := ww_F hs hc10
        refine lv_aload_n hx hb dX1_foretells_16 rfl (lv_at hl 0 rfl) ?_
        refine gf_X1_121 hx hb hts hown hW (pr_st (hW.rd hgm) (Nat.le_of_ble_eq_true rfl)) (hW.fl hgm (pr_st (hW.rd hgm) (Nat.le_of_ble_eq_true rfl)) 22 (by decide) rfl (by decide)) dX1_foretells_17 ?_
        refine lv_iload_n hx hb dX1_foretells_20 rfl (lv_at hl 2 rfl) ?_
        refine lv_iconst (v := 0) hx hb dX1_foretells_21 (by decide) ?_
        obtain ⟨hc14, hs⟩ := ww_chk hs
        obtain ⟨hc15, hs⟩ := ww_chk hs
        obtain ⟨σ16, e17, hs⟩ := ww_let hs
        refine ww_iast hx hb hW 32 (gP_ σ 1 22 0) (pr_st (hW.rd hgm) hc14) rfl hc15 dX1_foretells_22 (fun H locs hW => ?_)
        have hW : wv g L σ16 s H locs := by rw [e17]; exact hW
        refine lv_iinc (v := (x2 + (1 : Int32))) (lv' := [(2, .int (x2 + (1 : Int32))), (0, .ref (L 1 0)), (1, .int x1)]) hx hb dX1_foretells_23 hl (k := 2) rfl rfl (by decide) rfl (fun ls hl => ?_)
        refine lv_goto (tgt := 10) hx hb dX1_foretells_26 (by decide) ?_
        exact ih10 σ16 x1 (x2 + (1 : Int32)) _ _ ls hW (lv_sub hl [1, 2, 0] rfl) hs
  refine lv_aload_n hx hb dX1_foretells_0 rfl (lv_at hl 0 rfl) ?_
  refine lv_aload_n hx hb dX1_foretells_1 rfl (lv_at hl 0 rfl) ?_
  refine gf_X1_124 hx hb hts hown hW (pr_st (hW.rd hgm) (Nat.le_of_ble_eq_true rfl)) (hW.fl hgm (pr_st (hW.rd hgm) (Nat.le_of_ble_eq_true rfl)) 23 (by decide) rfl (by decide)) dX1_foretells_2 ?_
  obtain ⟨σ18, e19, hs⟩ := ww_let hs
  refine pf_X1_121 hx hb hts hown hW (pr_st (hW.rd hgm) (Nat.le_of_ble_eq_true rfl)) (pr_st (hW.rd hgm) (Nat.le_of_ble_eq_true rfl)) (hW.fl hgm (pr_st (hW.rd hgm) (Nat.le_of_ble_eq_true rfl)) 22 (by decide) rfl (by decide)) dX1_foretells_5 (fun H locs hW => ?_)
  have hW : wv g L σ18 s H locs := by rw [e19]; exact hW
  refine lv_iconst (v := 0) hx hb dX1_foretells_8 (by decide) ?_
  refine lv_istore_n (lv' := [(2, .int (0 : Int32)), (0, .ref (L 1 0)), (1, .int a1)]) hx hb dX1_foretells_9 rfl hl (by decide) rfl (fun ls hl => ?_)
  exact hL10 fu_ σ18 a1 (0 : Int32) _ _ ls hW (lv_sub hl [1, 2, 0] rfl) hs
set_option maxHeartbeats 4000000 in
theorem c_X1_foretold (g : wg_T) (hgm : gm g = true) (l : Launch) (L : ly_T) (σ : st_T) (a1 : Int32) (a2 : Int32) (hst : l.stackTraces = false) (o_ : Nat ⊕ Int32) (σ_ : st_T) (hs : m_X1_foretold σ a1 a2 = some (o_, σ_)) : XI g l yX1_foretold (ws_ yX1_foretold cX1_foretold 4 (some .int)) 10 232 (xc o_) (xs o_) [.ref (L 1 0), .int a1, .int a2] L σ o_ σ_ := by
  refine xbody.met (by decide) (Nat.le_of_ble_eq_true rfl) ?_
  intro p e s m args below meth c ls hx hb hr hml hlocks hts hown hnm hout hW hl
  have hown : s.vm.findClass RX1 = some m.cls := hown
  have hl : lv_has ls 4 [(0, .ref (L 1 0)), (1, .int a1), (2, .int a2)] := hl
  unfold m_X1_foretold at hs
  have hL15 : ∀ (σ : st_T) (x1 : Int32) (x2 : Int32) (t0 : Int32) (H : Heap) (locs : List Loc) (ls : Array Slot), wv g L σ s H locs → lv_has ls 4 [(0, .ref (L 1 0)), (1, .int x1), (2, .int x2)] → m_X1_foretold_L15 σ x1 x2 t0 = some (o_, σ_) → W p l e (wrm 10 232 (xc o_) (xs o_)) s m args below meth c H locs 0 0 (vx_MQ below (wXi g L o_ σ_) (wX g o_ σ_ L) args s (xc o_) (xs o_) (fun q => gz g ≤ q)) (F0 m 15 ls [.int t0]) := by
    have hL54 : ∀ (σ : st_T) (t0 : Int32) (H : Heap) (locs : List Loc) (ls : Array Slot), wv g L σ s H locs → lv_has ls 4 [] → m_X1_foretold_L54 σ t0 = some (o_, σ_) → W p l e (wrm 10 232 (xc o_) (xs o_)) s m args below meth c H locs 0 0 (vx_MQ below (wXi g L o_ σ_) (wX g o_ σ_ L) args s (xc o_) (xs o_) (fun q => gz g ≤ q)) (F0 m 54 ls [.int t0]) := by
      intro σ t0 H locs ls hW hl hs
      unfold m_X1_foretold_L54 at hs
      have hs := ww_S hs
      exact wx_i hx hb hr hlocks hW (congrArg Prod.fst hs) (congrArg Prod.snd hs) (Nat.zero_le _) (Nat.zero_le _) dX1_foretold_54
    intro σ x1 x2 t0 H locs ls hW hl hs
    unfold m_X1_foretold_L15 at hs
    obtain ⟨o3, hc1, hs⟩ := ww_bnd hs
    rcases o3 with k4 | v5
    · have hs := ww_sL hs
      have hs := ww_S hs
      have e1 : o_ = .inl k4 := congrArg Prod.fst hs
      have e2 : σ_ = σ := congrArg Prod.snd hs
      subst e1
      exact wx_prop (vx_runS (As := [.int t0]) (rest := []) ⟨hx, hb, hml, hown, hts⟩ (c_X1_wrong g hgm l L σ t0 hst _ hc1) (va_cwS 1 hts (lw_S q848 q849 q111 q850) rfl rfl rfl hd_X1_wrong.2 ⟨(Nat.le_of_ble_eq_true rfl), (Nat.le_of_ble_eq_true rfl)⟩) (ww_preS hW) rfl rfl hl.1 rfl (lv_room (Nat.le_of_ble_eq_true rfl)) dX1_foretold_15 ⟨Nat.le_of_ble_eq_true rfl, Nat.le_of_ble_eq_true rfl⟩) no_v hW hlocks hout rfl e2 (Nat.le_of_ble_eq_true rfl) (Nat.le_of_ble_eq_true rfl)
    · have hs := ww_sR hs
      refine ww_xv0 (vx_runS (As := [.int t0]) (rest := []) ⟨hx, hb, hml, hown, hts⟩ (c_X1_wrong g hgm l L σ t0 hst _ hc1) (va_cwS 1 hts (lw_S q848 q849 q111 q850) rfl rfl rfl hd_X1_wrong.2 ⟨(Nat.le_of_ble_eq_true rfl), (Nat.le_of_ble_eq_true rfl)⟩) (ww_preS hW) rfl rfl hl.1 rfl (lv_room (Nat.le_of_ble_eq_true rfl)) dX1_foretold_15 ⟨Nat.zero_le _, Nat.zero_le _⟩) hW (fun H locs hW => ?_)
      refine lv_iload_n hx hb dX1_foretold_18 rfl (lv_at hl 2 rfl) ?_
      obtain ⟨o8, hc6, hs⟩ := ww_bnd hs
      rcases o8 with k9 | v10
      · have hs := ww_sL hs
        have hs := ww_S hs
        have e1 : o_ = .inl k9 := congrArg Prod.fst hs
        have e2 : σ_ = σ := congrArg Prod.snd hs
        subst e1
        exact wx_prop (vx_runS (As := [.int x2]) (rest := []) ⟨hx, hb, hml, hown, hts⟩ (c_X1_some g hgm l L σ x2 hst _ hc6) (va_cwS 1 hts (lw_S q1224 q1225 q111 q1226) rfl rfl rfl hd_X1_some.2 ⟨(Nat.le_of_ble_eq_true rfl), (Nat.le_of_ble_eq_true rfl)⟩) (ww_preS hW) rfl rfl hl.1 rfl (lv_room (Nat.le_of_ble_eq_true rfl)) dX1_foretold_19 ⟨Nat.le_of_ble_eq_true rfl, Nat.le_of_ble_eq_true rfl⟩) no_v hW hlocks hout rfl e2 (Nat.le_of_ble_eq_true rfl) (Nat.le_of_ble_eq_true rfl)
      · have hs := ww_sR hs
        refine ww_xv0 (vx_runS (As := [.int x2]) (rest := []) ⟨hx, hb, hml, hown, hts⟩ (c_X1_some g hgm l L σ x2 hst _ hc6) (va_cwS 1 hts (lw_S q1224 q1225 q111 q1226) rfl rfl rfl hd_X1_some.2 ⟨(Nat.le_of_ble_eq_true rfl), (Nat.le_of_ble_eq_true rfl)⟩) (ww_preS hW) rfl rfl hl.1 rfl (lv_room (Nat.le_of_ble_eq_true rfl)) dX1_foretold_19 ⟨Nat.zero_le _, Nat.zero_le _⟩) hW (fun H locs hW => ?_)
        refine lv_aload_n hx hb dX1_foretold_22 rfl (lv_at hl 0 rfl) ?_
        refine gf_X1_48 hx hb hts hown hW (pr_st (hW.rd hgm) (Nat.le_of_ble_eq_true rfl)) (hW.fl hgm (pr_st (hW.rd hgm) (Nat.le_of_ble_eq_true rfl)) 2 (by decide) rfl (by decide)) dX1_foretold_23 ?_
        refine lv_aload_n hx hb dX1_foretold_26 rfl (lv_at hl 0 rfl) ?_
        refine gf_X1_44 hx hb hts hown hW (pr_st (hW.rd hgm) (Nat.le_of_ble_eq_true rfl)) (hW.fl hgm (pr_st (hW.rd hgm) (Nat.le_of_ble_eq_true rfl)) 1 (by decide) rfl (by decide)) dX1_foretold_27 ?_
        obtain ⟨σ13, hc11, hs⟩ := ww_bnd hs
        refine ww_cv (va_runV (As := [.ref (L 50 0)]) (rest := []) ⟨hx, hb, hml, hown, hts⟩ (c_X2_like g hgm l L σ 1 0 _ hc11) (cwV 1 hts (lw_V q489 q490 q491 q112 q492) rfl rfl rfl hd_X2_like ⟨(Nat.le_of_ble_eq_true rfl), (Nat.le_of_ble_eq_true rfl)⟩) (ww_preV hW (pr_st (hW.rd hgm) (Nat.le_of_ble_eq_true rfl)) (obv_0 rfl) rfl) rfl rfl hl.1 rfl (lv_room (Nat.le_of_ble_eq_true rfl)) dX1_foretold_30 ⟨Nat.le_of_ble_eq_true rfl, Nat.le_of_ble_eq_true rfl⟩) hW (fun H locs hW => ?_)
        refine lv_aload_n hx hb dX1_foretold_33 rfl (lv_at hl 0 rfl) ?_
        refine lv_iload_n hx hb dX1_foretold_34 rfl (lv_at hl 2 rfl) ?_
        obtain ⟨v16, σ17, hc14, hs⟩ := ww_bn2 hs
        refine ww_ci (va_runV (As := [.int x2]) (rest := []) ⟨hx, hb, hml, hown, hts⟩ (c_X1_foretells g hgm l L σ13 x2 _ _ hc14) (cwV 1 hts (lw_V q599 q601 qs5 q111 q602) rfl rfl rfl hd_X1_foretells ⟨(Nat.le_of_ble_eq_true rfl), (Nat.le_of_ble_eq_true rfl)⟩) (ww_preV hW (pr_st (hW.rd hgm) (Nat.le_of_ble_eq_true rfl)) (obv_0 rfl) rfl) rfl rfl hl.1 rfl (lv_room (Nat.le_of_ble_eq_true rfl)) dX1_foretold_35 ⟨Nat.le_of_ble_eq_true rfl, Nat.le_of_ble_eq_true rfl⟩) hW (fun H locs hW => ?_)
        refine lv_istore_n (lv' := [(3, .int v16), (0, .ref (L 1 0)), (1, .int x1), (2, .int x2)]) hx hb dX1_foretold_38 rfl hl (by decide) rfl (fun ls hl => ?_)
        refine lv_iload_n hx hb dX1_foretold_39 rfl (lv_at hl 2 rfl) ?_
        refine lv_iconst (v := (-1)) hx hb dX1_foretold_40 (by decide) ?_
        refine lv_icmp_ne (tgt := 48) hx hb dX1_foretold_41 (by decide) (fun hc18 => ?_) (fun hc18 => ?_)
        · have hs := ww_F hs hc18
          refine lv_aload_n hx hb dX1_foretold_48 rfl (lv_at hl 1 rfl) ?_
          refine gf_X1_121 hx hb hts hown hW (pr_st (hW.rd hgm) (Nat.le_of_ble_eq_true rfl)) (hW.fl hgm (pr_st (hW.rd hgm) (Nat.le_of_ble_eq_true rfl)) 22 (by decide) rfl (by decide)) dX1_foretold_49 ?_
          refine lv_iload_n hx hb dX1_foretold_52 rfl (lv_at hl 2 rfl) ?_
          obtain ⟨hc19, hs⟩ := ww_chk hs
          obtain ⟨hc20, hs⟩ := ww_chk hs
          refine ww_iald hx hb hW 32 (gP_ σ17 1 22 0) (pr_st (hW.rd hgm) hc19) rfl hc20 dX1_foretold_53 ?_
          exact hL54 σ17 (gA_ σ17 32 (gP_ σ17 1 22 0) x1.toNatClampNeg) _ _ ls hW (lv_sub hl [] rfl) hs
        · have hs := ww_T hs hc18
          refine lv_iload_n hx hb dX1_foretold_44 rfl (lv_at hl 0 rfl) ?_
          refine lv_goto (tgt := 54) hx hb dX1_foretold_45 (by decide) ?_
          exact hL54 σ17 v16 _ _ ls hW (lv_sub hl [] rfl) hs
  refine lv_iload_n hx hb dX1_foretold_0 rfl (lv_at hl 1 rfl) ?_
  refine lv_iconst (v := (-1)) hx hb dX1_foretold_1 (by decide) ?_
  refine lv_bipush (v := 9) hx hb dX1_foretold_2 (by decide) ?_
  obtain ⟨v23, hc21, hs⟩ := ww_bnd hs
  refine ww_ci (va_runS (As := [.int a1, .int (-1 : Int32), .int (9 : Int32)]) (rest := []) ⟨hx, hb, hml, hown, hts⟩ (c_X1_in g hgm l L σ a1 (-1 : Int32) (9 : Int32) _ hc21) (va_cwS 3 hts (lw_S q824 q825 q111 q826) rfl rfl rfl hd_X1_in.2 ⟨(Nat.le_of_ble_eq_true rfl), (Nat.le_of_ble_eq_true rfl)⟩) (ww_preS hW) rfl rfl hl.1 rfl (lv_room (Nat.le_of_ble_eq_true rfl)) dX1_foretold_4 ⟨Nat.le_of_ble_eq_true rfl, Nat.le_of_ble_eq_true rfl⟩) hW (fun H locs hW => ?_)
  refine lv_if_ne (tgt := 14) hx hb dX1_foretold_7 (by decide) (fun hc24 => ?_) (fun hc24 => ?_)
  · have hs := ww_F hs hc24
    refine lv_iconst (v := 0) hx hb dX1_foretold_14 (by decide) ?_
    exact hL15 σ a1 a2 (0 : Int32) _ _ ls hW (lv_sub hl [0, 1, 2] rfl) hs
  · have hs := ww_T hs hc24
    refine lv_iconst (v := 1) hx hb dX1_foretold_10 (by decide) ?_
    refine lv_goto (tgt := 15) hx hb dX1_foretold_11 (by decide) ?_
    exact hL15 σ a1 a2 (1 : Int32) _ _ ls hW (lv_sub hl [0, 1, 2] rfl) hs
set_option maxHeartbeats 4000000 in
theorem c_X1_pushed (g : wg_T) (hgm : gm g = true) (l : Launch) (L : ly_T) (σ : st_T) (a1 : Int32) (a2 : Int32) (a3 : Int32) (hst : l.stackTraces = false) (o_ : Nat ⊕ Int32) (σ_ : st_T) (hs : m_X1_pushed σ a1 a2 a3 = some (o_, σ_)) : XI g l yX1_pushed (ws_ yX1_pushed cX1_pushed 5 (some .int)) 10 232 (xc o_) (xs o_) [.ref (L 1 0), .int a1, .int a2, .int a3] L σ o_ σ_ := by
  refine xbody.met (by decide) (Nat.le_of_ble_eq_true rfl) ?_
  intro p e s m args below meth c ls hx hb hr hml hlocks hts hown hnm hout hW hl
  have hown : s.vm.findClass RX1 = some m.cls := hown
  have hl : lv_has ls 5 [(0, .ref (L 1 0)), (1, .int a1), (2, .int a2), (3, .int a3)] := hl
  unfold m_X1_pushed at hs
  refine lv_iload_n hx hb dX1_pushed_0 rfl (lv_at hl 1 rfl) ?_
  refine lv_iload_n hx hb dX1_pushed_1 rfl (lv_at hl 2 rfl) ?_
  obtain ⟨o3, hc1, hs⟩ := ww_bnd hs
  rcases o3 with k4 | v5
  · have hs := ww_sL hs
    have hs := ww_S hs
    have e1 : o_ = .inl k4 := congrArg Prod.fst hs
    have e2 : σ_ = σ := congrArg Prod.snd hs
    subst e1
    exact wx_prop (vx_runS (As := [.int a1, .int a2]) (rest := []) ⟨hx, hb, hml, hown, hts⟩ (c_X1_edge g hgm l L σ a1 a2 hst _ hc1) (va_cwS 2 hts (lw_S q920 q921 q111 q922) rfl rfl rfl hd_X1_edge.2 ⟨(Nat.le_of_ble_eq_true rfl), (Nat.le_of_ble_eq_true rfl)⟩) (ww_preS hW) rfl rfl hl.1 rfl (lv_room (Nat.le_of_ble_eq_true rfl)) dX1_pushed_2 ⟨Nat.le_of_ble_eq_true rfl, Nat.le_of_ble_eq_true rfl⟩) no_v hW hlocks hout rfl e2 (Nat.le_of_ble_eq_true rfl) (Nat.le_of_ble_eq_true rfl)
  · have hs := ww_sR hs
    refine ww_xv0 (vx_runS (As := [.int a1, .int a2]) (rest := []) ⟨hx, hb, hml, hown, hts⟩ (c_X1_edge g hgm l L σ a1 a2 hst _ hc1) (va_cwS 2 hts (lw_S q920 q921 q111 q922) rfl rfl rfl hd_X1_edge.2 ⟨(Nat.le_of_ble_eq_true rfl), (Nat.le_of_ble_eq_true rfl)⟩) (ww_preS hW) rfl rfl hl.1 rfl (lv_room (Nat.le_of_ble_eq_true rfl)) dX1_pushed_2 ⟨Nat.zero_le _, Nat.zero_le _⟩) hW (fun H locs hW => ?_)
    refine lv_iload_n hx hb dX1_pushed_5 rfl (lv_at hl 3 rfl) ?_
    obtain ⟨o8, hc6, hs⟩ := ww_bnd hs
    rcases o8 with k9 | v10
    · have hs := ww_sL hs
      have hs := ww_S hs
      have e1 : o_ = .inl k9 := congrArg Prod.fst hs
      have e2 : σ_ = σ := congrArg Prod.snd hs
      subst e1
      exact wx_prop (vx_runS (As := [.int a3]) (rest := []) ⟨hx, hb, hml, hown, hts⟩ (c_X1_family g hgm l L σ a3 hst _ hc6) (va_cwS 1 hts (lw_S q896 q897 q111 q898) rfl rfl rfl hd_X1_family.2 ⟨(Nat.le_of_ble_eq_true rfl), (Nat.le_of_ble_eq_true rfl)⟩) (ww_preS hW) rfl rfl hl.1 rfl (lv_room (Nat.le_of_ble_eq_true rfl)) dX1_pushed_6 ⟨Nat.le_of_ble_eq_true rfl, Nat.le_of_ble_eq_true rfl⟩) no_v hW hlocks hout rfl e2 (Nat.le_of_ble_eq_true rfl) (Nat.le_of_ble_eq_true rfl)
    · have hs := ww_sR hs
      refine ww_xv0 (vx_runS (As := [.int a3]) (rest := []) ⟨hx, hb, hml, hown, hts⟩ (c_X1_family g hgm l L σ a3 hst _ hc6) (va_cwS 1 hts (lw_S q896 q897 q111 q898) rfl rfl rfl hd_X1_family.2 ⟨(Nat.le_of_ble_eq_true rfl), (Nat.le_of_ble_eq_true rfl)⟩) (ww_preS hW) rfl rfl hl.1 rfl (lv_room (Nat.le_of_ble_eq_true rfl)) dX1_pushed_6 ⟨Nat.zero_le _, Nat.zero_le _⟩) hW (fun H locs hW => ?_)
      refine lv_aload_n hx hb dX1_pushed_9 rfl (lv_at hl 0 rfl) ?_
      refine gf_X1_48 hx hb hts hown hW (pr_st (hW.rd hgm) (Nat.le_of_ble_eq_true rfl)) (hW.fl hgm (pr_st (hW.rd hgm) (Nat.le_of_ble_eq_true rfl)) 2 (by decide) rfl (by decide)) dX1_pushed_10 ?_
      refine lv_aload_n hx hb dX1_pushed_13 rfl (lv_at hl 0 rfl) ?_
      refine gf_X1_44 hx hb hts hown hW (pr_st (hW.rd hgm) (Nat.le_of_ble_eq_true rfl)) (hW.fl hgm (pr_st (hW.rd hgm) (Nat.le_of_ble_eq_true rfl)) 1 (by decide) rfl (by decide)) dX1_pushed_14 ?_
      obtain ⟨σ13, hc11, hs⟩ := ww_bnd hs
      refine ww_cv (va_runV (As := [.ref (L 50 0)]) (rest := []) ⟨hx, hb, hml, hown, hts⟩ (c_X2_like g hgm l L σ 1 0 _ hc11) (cwV 1 hts (lw_V q489 q490 q491 q112 q492) rfl rfl rfl hd_X2_like ⟨(Nat.le_of_ble_eq_true rfl), (Nat.le_of_ble_eq_true rfl)⟩) (ww_preV hW (pr_st (hW.rd hgm) (Nat.le_of_ble_eq_true rfl)) (obv_0 rfl) rfl) rfl rfl hl.1 rfl (lv_room (Nat.le_of_ble_eq_true rfl)) dX1_pushed_17 ⟨Nat.le_of_ble_eq_true rfl, Nat.le_of_ble_eq_true rfl⟩) hW (fun H locs hW => ?_)
      refine lv_aload_n hx hb dX1_pushed_20 rfl (lv_at hl 0 rfl) ?_
      refine lv_iconst (v := 1) hx hb dX1_pushed_21 (by decide) ?_
      obtain ⟨v16, σ17, hc14, hs⟩ := ww_bn2 hs
      refine ww_ci (va_runV (As := [.int (1 : Int32)]) (rest := []) ⟨hx, hb, hml, hown, hts⟩ (c_X1_foretells g hgm l L σ13 (1 : Int32) _ _ hc14) (cwV 1 hts (lw_V q599 q601 qs5 q111 q602) rfl rfl rfl hd_X1_foretells ⟨(Nat.le_of_ble_eq_true rfl), (Nat.le_of_ble_eq_true rfl)⟩) (ww_preV hW (pr_st (hW.rd hgm) (Nat.le_of_ble_eq_true rfl)) (obv_0 rfl) rfl) rfl rfl hl.1 rfl (lv_room (Nat.le_of_ble_eq_true rfl)) dX1_pushed_22 ⟨Nat.le_of_ble_eq_true rfl, Nat.le_of_ble_eq_true rfl⟩) hW (fun H locs hW => ?_)
      refine lv_pop hx hb dX1_pushed_25 rfl ?_
      refine lv_aload_n hx hb dX1_pushed_26 rfl (lv_at hl 0 rfl) ?_
      refine gf_X1_121 hx hb hts hown hW (pr_st (hW.rd hgm) (Nat.le_of_ble_eq_true rfl)) (hW.fl hgm (pr_st (hW.rd hgm) (Nat.le_of_ble_eq_true rfl)) 22 (by decide) rfl (by decide)) dX1_pushed_27 ?_
      refine lv_iload_n hx hb dX1_pushed_30 rfl (lv_at hl 3 rfl) ?_
      obtain ⟨hc18, hs⟩ := ww_chk hs
      obtain ⟨hc19, hs⟩ := ww_chk hs
      refine ww_iald hx hb hW 32 (gP_ σ17 1 22 0) (pr_st (hW.rd hgm) hc18) rfl hc19 dX1_pushed_31 ?_
      refine lv_istore (lv' := [(4, .int (gA_ σ17 32 (gP_ σ17 1 22 0) a3.toNatClampNeg)), (0, .ref (L 1 0)), (1, .int a1), (2, .int a2), (3, .int a3)]) hx hb dX1_pushed_32 hl (by decide) rfl (fun ls hl => ?_)
      refine lv_aload_n hx hb dX1_pushed_34 rfl (lv_at hl 1 rfl) ?_
      refine gf_X1_48 hx hb hts hown hW (pr_st (hW.rd hgm) (Nat.le_of_ble_eq_true rfl)) (hW.fl hgm (pr_st (hW.rd hgm) (Nat.le_of_ble_eq_true rfl)) 2 (by decide) rfl (by decide)) dX1_pushed_35 ?_
      refine lv_aload_n hx hb dX1_pushed_38 rfl (lv_at hl 1 rfl) ?_
      refine gf_X1_44 hx hb hts hown hW (pr_st (hW.rd hgm) (Nat.le_of_ble_eq_true rfl)) (hW.fl hgm (pr_st (hW.rd hgm) (Nat.le_of_ble_eq_true rfl)) 1 (by decide) rfl (by decide)) dX1_pushed_39 ?_
      obtain ⟨σ22, hc20, hs⟩ := ww_bnd hs
      refine ww_cv (va_runV (As := [.ref (L 50 0)]) (rest := []) ⟨hx, hb, hml, hown, hts⟩ (c_X2_like g hgm l L σ17 1 0 _ hc20) (cwV 1 hts (lw_V q489 q490 q491 q112 q492) rfl rfl rfl hd_X2_like ⟨(Nat.le_of_ble_eq_true rfl), (Nat.le_of_ble_eq_true rfl)⟩) (ww_preV hW (pr_st (hW.rd hgm) (Nat.le_of_ble_eq_true rfl)) (obv_0 rfl) rfl) rfl rfl hl.1 rfl (lv_room (Nat.le_of_ble_eq_true rfl)) dX1_pushed_42 ⟨Nat.le_of_ble_eq_true rfl, Nat.le_of_ble_eq_true rfl⟩) hW (fun H locs hW => ?_)
      refine lv_aload_n hx hb dX1_pushed_45 rfl (lv_at hl 1 rfl) ?_
      refine gf_X1_48 hx hb hts hown hW (pr_st (hW.rd hgm) (Nat.le_of_ble_eq_true rfl)) (hW.fl hgm (pr_st (hW.rd hgm) (Nat.le_of_ble_eq_true rfl)) 2 (by decide) rfl (by decide)) dX1_pushed_46 ?_
      refine lv_iload_n hx hb dX1_pushed_49 rfl (lv_at hl 2 rfl) ?_
      refine lv_iload_n hx hb dX1_pushed_50 rfl (lv_at hl 3 rfl) ?_
      refine lv_iconst (v := 0) hx hb dX1_pushed_51 (by decide) ?_
      obtain ⟨σ25, hc23, hs⟩ := ww_bnd hs
      refine ww_cv (va_runV (As := [.int a1, .int a2, .int (0 : Int32)]) (rest := []) ⟨hx, hb, hml, hown, hts⟩ (c_X2_fence_2 g hgm l L σ22 1 a1 a2 (0 : Int32) _ hc23) (cwV 3 hts (lw_V q579 q580 q581 q112 q582) rfl rfl rfl hd_X2_fence_2 ⟨(Nat.le_of_ble_eq_true rfl), (Nat.le_of_ble_eq_true rfl)⟩) (ww_preV hW (pr_st (hW.rd hgm) (Nat.le_of_ble_eq_true rfl)) (obv_0 rfl) rfl) rfl rfl hl.1 rfl (lv_room (Nat.le_of_ble_eq_true rfl)) dX1_pushed_52 ⟨Nat.le_of_ble_eq_true rfl, Nat.le_of_ble_eq_true rfl⟩) hW (fun H locs hW => ?_)
      refine lv_aload_n hx hb dX1_pushed_55 rfl (lv_at hl 1 rfl) ?_
      refine lv_iconst (v := 1) hx hb dX1_pushed_56 (by decide) ?_
      obtain ⟨v28, σ29, hc26, hs⟩ := ww_bn2 hs
      refine ww_ci (va_runV (As := [.int (1 : Int32)]) (rest := []) ⟨hx, hb, hml, hown, hts⟩ (c_X1_foretells g hgm l L σ25 (1 : Int32) _ _ hc26) (cwV 1 hts (lw_V q599 q601 qs5 q111 q602) rfl rfl rfl hd_X1_foretells ⟨(Nat.le_of_ble_eq_true rfl), (Nat.le_of_ble_eq_true rfl)⟩) (ww_preV hW (pr_st (hW.rd hgm) (Nat.le_of_ble_eq_true rfl)) (obv_0 rfl) rfl) rfl rfl hl.1 rfl (lv_room (Nat.le_of_ble_eq_true rfl)) dX1_pushed_57 ⟨Nat.le_of_ble_eq_true rfl, Nat.le_of_ble_eq_true rfl⟩) hW (fun H locs hW => ?_)
      refine lv_pop hx hb dX1_pushed_60 rfl ?_
      refine lv_iload hx hb dX1_pushed_61 (lv_at hl 0 rfl) ?_
      refine lv_aload_n hx hb dX1_pushed_63 rfl (lv_at hl 1 rfl) ?_
      refine gf_X1_121 hx hb hts hown hW (pr_st (hW.rd hgm) (Nat.le_of_ble_eq_true rfl)) (hW.fl hgm (pr_st (hW.rd hgm) (Nat.le_of_ble_eq_true rfl)) 22 (by decide) rfl (by decide)) dX1_pushed_64 ?_
      refine lv_iload_n hx hb dX1_pushed_67 rfl (lv_at hl 4 rfl) ?_
      obtain ⟨hc30, hs⟩ := ww_chk hs
      refine ww_iald hx hb hW 32 (gP_ σ29 1 22 0) (pr_st (hW.rd hgm) hc30) rfl hc19 dX1_pushed_68 ?_
      refine lv_isub hx hb dX1_pushed_69 ?_
      have hs := ww_S hs
      exact wx_i hx hb hr hlocks hW (congrArg Prod.fst hs) (congrArg Prod.snd hs) (Nat.zero_le _) (Nat.zero_le _) dX1_pushed_70
set_option maxHeartbeats 4000000 in
theorem c_X1_post (g : wg_T) (hgm : gm g = true) (l : Launch) (L : ly_T) (σ : st_T) (a1 : Int32) (a2 : Int32) (hst : l.stackTraces = false) (o_ : Nat ⊕ Int32) (σ_ : st_T) (hs : m_X1_post σ a1 a2 = some (o_, σ_)) : XI g l yX1_post (ws_ yX1_post cX1_post 10 (some .int)) 9 232 (xc o_) (xs o_) [.ref (L 1 0), .int a1, .int a2] L σ o_ σ_ := by
  refine xbody.met (by decide) (Nat.le_of_ble_eq_true rfl) ?_
  intro p e s m args below meth c ls hx hb hr hml hlocks hts hown hnm hout hW hl
  have hown : s.vm.findClass RX1 = some m.cls := hown
  have hl : lv_has ls 10 [(0, .ref (L 1 0)), (1, .int a1), (2, .int a2)] := hl
  unfold m_X1_post at hs
  have hL14 : ∀ (σ : st_T) (x1 : Int32) (x2 : Int32) (t0 : Int32) (H : Heap) (locs : List Loc) (ls : Array Slot), wv g L σ s H locs → lv_has ls 10 [(0, .ref (L 1 0)), (1, .int x1), (2, .int x2)] → m_X1_post_L14 σ x1 x2 t0 = some (o_, σ_) → W p l e (wrm 9 232 (xc o_) (xs o_)) s m args below meth c H locs 0 0 (vx_MQ below (wXi g L o_ σ_) (wX g o_ σ_ L) args s (xc o_) (xs o_) (fun q => gz g ≤ q)) (F0 m 14 ls [.int t0]) := by
    have hL47 : ∀ (n47 : Nat), ∀ (σ : st_T) (x2 : Int32) (x3 : Int32) (x4 : Int32) (x5 : Int32) (x6 : Int32) (x7 : Int32) (H : Heap) (locs : List Loc) (ls : Array Slot), wv g L σ s H locs → lv_has ls 10 [(0, .ref (L 1 0)), (2, .int x2), (3, .int x3), (4, .int x4), (5, .int x5), (6, .int x6), (7, .int x7)] → (m_X1_post_L47 n47) σ x2 x3 x4 x5 x6 x7 = some (o_, σ_) → W p l e (wrm 9 232 (xc o_) (xs o_)) s m args below meth c H locs 0 0 (vx_MQ below (wXi g L o_ σ_) (wX g o_ σ_ L) args s (xc o_) (xs o_) (fun q => gz g ≤ q)) (F0 m 47 ls []) := by
      intro n47
      induction n47 with
      | zero => intro σ x2 x3 x4 x5 x6 x7 H locs ls hW hl hs; rw [m_X1_post_L47] at hs; cases hs
      | succ n47 ih47 =>
        have hL189 : ∀ (n189 : Nat), ∀ (σ : st_T) (x2 : Int32) (x3 : Int32) (x5 : Int32) (x7 : Int32) (x8 : Int32) (H : Heap) (locs : List Loc) (ls : Array Slot), wv g L σ s H locs → lv_has ls 10 [(0, .ref (L 1 0)), (2, .int x2), (3, .int x3), (5, .int x5), (7, .int x7), (8, .int x8)] → (m_X1_post_L189 n189) σ x2 x3 x5 x7 x8 = some (o_, σ_) → W p l e (wrm 9 232 (xc o_) (xs o_)) s m args below meth c H locs 0 0 (vx_MQ below (wXi g L o_ σ_) (wX g o_ σ_ L) args s (xc o_) (xs o_) (fun q => gz g ≤ q)) (F0 m 189 ls []) := by
          intro n189
          induction n189 with
          | zero => intro σ x2 x3 x5 x7 x8 H locs ls hW hl hs; rw [m_X1_post_L189] at hs; cases hs
          | succ n189 ih189 =>
            have hL234 : ∀ (σ : st_T)  (H : Heap) (locs : List Loc) (ls : Array Slot), wv g L σ s H locs → lv_has ls 10 [] → m_X1_post_L234 σ = some (o_, σ_) → W p l e (wrm 9 232 (xc o_) (xs o_)) s m args below meth c H locs 0 0 (vx_MQ below (wXi g L o_ σ_) (wX g o_ σ_ L) args s (xc o_) (xs o_) (fun q => gz g ≤ q)) (F0 m 234 ls []) := by
              intro σ H locs ls hW hl hs
              unfold m_X1_post_L234 at hs
              refine lv_iconst (v := (-1)) hx hb dX1_post_234 (by decide) ?_
              have hs := ww_S hs
              exact wx_i hx hb hr hlocks hW (congrArg Prod.fst hs) (congrArg Prod.snd hs) (Nat.zero_le _) (Nat.zero_le _) dX1_post_235
            have hL228 : ∀ (σ : st_T) (x2 : Int32) (x3 : Int32) (x5 : Int32) (x7 : Int32) (x8 : Int32) (H : Heap) (locs : List Loc) (ls : Array Slot), wv g L σ s H locs → lv_has ls 10 [(0, .ref (L 1 0)), (2, .int x2), (3, .int x3), (5, .int x5), (7, .int x7), (8, .int x8)] → (m_X1_post_L228 (m_X1_post_L189 n189)) σ x2 x3 x5 x7 x8 = some (o_, σ_) → W p l e (wrm 9 232 (xc o_) (xs o_)) s m args below meth c H locs 0 0 (vx_MQ below (wXi g L o_ σ_) (wX g o_ σ_ L) args s (xc o_) (xs o_) (fun q => gz g ≤ q)) (F0 m 228 ls []) := by
              intro σ x2 x3 x5 x7 x8 H locs ls hW hl hs
              unfold m_X1_post_L228 at hs
              refine lv_iinc (v := (x8 + (1 : Int32))) (lv' := [(8, .int (x8 + (1 : Int32))), (0, .ref (L 1 0)), (2, .int x2), (3, .int x3), (5, .int x5), (7, .int x7)]) hx hb dX1_post_228 hl (k := 5) rfl rfl (by decide) rfl (fun ls hl => ?_)
              refine lv_goto (tgt := 189) hx hb dX1_post_231 (by decide) ?_
              exact ih189 σ x2 x3 x5 x7 (x8 + (1 : Int32)) _ _ ls hW (lv_sub hl [1, 2, 3, 4, 5, 0] rfl) hs
            intro σ x2 x3 x5 x7 x8 H locs ls hW hl hs
            rw [m_X1_post_L189] at hs
            refine lv_iload hx hb dX1_post_189 (lv_at hl 5 rfl) ?_
            refine lv_iload_n hx hb dX1_post_191 rfl (lv_at hl 2 rfl) ?_
            refine lv_icmp_ge (tgt := 234) hx hb dX1_post_192 (by decide) (fun hc1 => ?_) (fun hc1 => ?_)
            · have hs := ww_T hs hc1
              exact hL234 σ _ _ ls hW (lv_sub hl [] rfl) hs
            · have hs := ww_F hs hc1
              refine lv_iload_n hx hb dX1_post_195 rfl (lv_at hl 1 rfl) ?_
              refine lv_if_lt (tgt := 234) hx hb dX1_post_196 (by decide) (fun hc2 => ?_) (fun hc2 => ?_)
              · have hs := ww_T hs hc2
                exact hL234 σ _ _ ls hW (lv_sub hl [] rfl) hs
              · have hs := ww_F hs hc2
                refine lv_iload hx hb dX1_post_199 (lv_at hl 3 rfl) ?_
                refine lv_iload hx hb dX1_post_201 (lv_at hl 5 rfl) ?_
                refine lv_ishr hx hb dX1_post_203 ?_
                refine lv_iconst (v := 1) hx hb dX1_post_204 (by decide) ?_
                refine lv_iand hx hb dX1_post_205 ?_
                refine lv_if_ne (tgt := 212) hx hb dX1_post_206 (by decide) (fun hc3 => ?_) (fun hc3 => ?_)
                · have hs := ww_F hs hc3
                  refine lv_iload hx hb dX1_post_212 (lv_at hl 4 rfl) ?_
                  refine lv_if_ne (tgt := 225) hx hb dX1_post_214 (by decide) (fun hc4 => ?_) (fun hc4 => ?_)
                  · have hs := ww_F hs hc4
                    refine lv_iinc (v := (x7 + (-1 : Int32))) (lv' := [(7, .int (x7 + (-1 : Int32))), (0, .ref (L 1 0)), (2, .int x2), (3, .int x3), (5, .int x5), (8, .int x8)]) hx hb dX1_post_225 hl (k := 4) rfl rfl (by decide) rfl (fun ls hl => ?_)
                    exact hL228 σ x2 x3 x5 (x7 + (-1 : Int32)) x8 _ _ ls hW (lv_sub hl [1, 2, 3, 4, 0, 5] rfl) hs
                  · have hs := ww_T hs hc4
                    refine lv_aload_n hx hb dX1_post_217 rfl (lv_at hl 0 rfl) ?_
                    refine gf_X1_97 hx hb hts hown hW (pr_st (hW.rd hgm) (Nat.le_of_ble_eq_true rfl)) (hW.fl hgm (pr_st (hW.rd hgm) (Nat.le_of_ble_eq_true rfl)) 14 (by decide) rfl (by decide)) dX1_post_218 ?_
                    refine lv_iload hx hb dX1_post_221 (lv_at hl 5 rfl) ?_
                    obtain ⟨hc5, hs⟩ := ww_chk hs
                    refine ww_iald hx hb hW 24 0 (pr_st (hW.rd hgm) (Nat.le_of_ble_eq_true rfl)) rfl hc5 dX1_post_223 ?_
                    have hs := ww_S hs
                    exact wx_i hx hb hr hlocks hW (congrArg Prod.fst hs) (congrArg Prod.snd hs) (Nat.zero_le _) (Nat.zero_le _) dX1_post_224
                · have hs := ww_T hs hc3
                  refine lv_goto (tgt := 228) hx hb dX1_post_209 (by decide) ?_
                  exact hL228 σ x2 x3 x5 x7 x8 _ _ ls hW (lv_sub hl [0, 1, 2, 3, 4, 5] rfl) hs
        have hL177 : ∀ (σ : st_T) (x2 : Int32) (x3 : Int32) (x4 : Int32) (x5 : Int32) (x6 : Int32) (x7 : Int32) (H : Heap) (locs : List Loc) (ls : Array Slot), wv g L σ s H locs → lv_has ls 10 [(0, .ref (L 1 0)), (2, .int x2), (3, .int x3), (4, .int x4), (5, .int x5), (6, .int x6), (7, .int x7)] → (m_X1_post_L177 (m_X1_post_L47 n47)) σ x2 x3 x4 x5 x6 x7 = some (o_, σ_) → W p l e (wrm 9 232 (xc o_) (xs o_)) s m args below meth c H locs 0 0 (vx_MQ below (wXi g L o_ σ_) (wX g o_ σ_ L) args s (xc o_) (xs o_) (fun q => gz g ≤ q)) (F0 m 177 ls []) := by
          intro σ x2 x3 x4 x5 x6 x7 H locs ls hW hl hs
          unfold m_X1_post_L177 at hs
          refine lv_iinc (v := (x7 + (1 : Int32))) (lv' := [(7, .int (x7 + (1 : Int32))), (0, .ref (L 1 0)), (2, .int x2), (3, .int x3), (4, .int x4), (5, .int x5), (6, .int x6)]) hx hb dX1_post_177 hl (k := 6) rfl rfl (by decide) rfl (fun ls hl => ?_)
          refine lv_goto (tgt := 47) hx hb dX1_post_180 (by decide) ?_
          exact ih47 σ x2 x3 x4 x5 x6 (x7 + (1 : Int32)) _ _ ls hW (lv_sub hl [1, 2, 3, 4, 5, 6, 0] rfl) hs
        have hL82 : ∀ (n82 : Nat), ∀ (σ : st_T) (x2 : Int32) (x3 : Int32) (x4 : Int32) (x5 : Int32) (x6 : Int32) (x7 : Int32) (x8 : Int32) (H : Heap) (locs : List Loc) (ls : Array Slot), wv g L σ s H locs → lv_has ls 10 [(0, .ref (L 1 0)), (2, .int x2), (3, .int x3), (4, .int x4), (5, .int x5), (6, .int x6), (7, .int x7), (8, .int x8)] → (m_X1_post_L82 (m_X1_post_L177 (m_X1_post_L47 n47)) n82) σ x2 x3 x4 x5 x6 x7 x8 = some (o_, σ_) → W p l e (wrm 9 232 (xc o_) (xs o_)) s m args below meth c H locs 0 0 (vx_MQ below (wXi g L o_ σ_) (wX g o_ σ_ L) args s (xc o_) (xs o_) (fun q => gz g ≤ q)) (F0 m 82 ls []) := by
          intro n82
          induction n82 with
          | zero => intro σ x2 x3 x4 x5 x6 x7 x8 H locs ls hW hl hs; rw [m_X1_post_L82] at hs; cases hs
          | succ n82 ih82 =>
            have hL169 : ∀ (σ : st_T) (x2 : Int32) (x3 : Int32) (x4 : Int32) (x7 : Int32) (x8 : Int32) (H : Heap) (locs : List Loc) (ls : Array Slot), wv g L σ s H locs → lv_has ls 10 [(0, .ref (L 1 0)), (2, .int x2), (3, .int x3), (4, .int x4), (7, .int x7), (8, .int x8)] → (m_X1_post_L169 (m_X1_post_L177 (m_X1_post_L47 n47))) σ x2 x3 x4 x7 x8 = some (o_, σ_) → W p l e (wrm 9 232 (xc o_) (xs o_)) s m args below meth c H locs 0 0 (vx_MQ below (wXi g L o_ σ_) (wX g o_ σ_ L) args s (xc o_) (xs o_) (fun q => gz g ≤ q)) (F0 m 169 ls []) := by
              intro σ x2 x3 x4 x7 x8 H locs ls hW hl hs
              unfold m_X1_post_L169 at hs
              refine lv_iload hx hb dX1_post_169 (lv_at hl 5 rfl) ?_
              refine lv_istore (lv' := [(6, .int x8), (0, .ref (L 1 0)), (2, .int x2), (3, .int x3), (4, .int x4), (7, .int x7), (8, .int x8)]) hx hb dX1_post_171 hl (by decide) rfl (fun ls hl => ?_)
              refine lv_iload hx hb dX1_post_173 (lv_at hl 5 rfl) ?_
              refine lv_istore (lv' := [(5, .int x7), (6, .int x8), (0, .ref (L 1 0)), (2, .int x2), (3, .int x3), (4, .int x4), (7, .int x7), (8, .int x8)]) hx hb dX1_post_175 hl (by decide) rfl (fun ls hl => ?_)
              exact hL177 σ x2 x3 x4 x7 x8 x7 _ _ ls hW (lv_sub hl [2, 3, 4, 5, 0, 1, 6] rfl) hs
            have hL120 : ∀ (σ : st_T) (x2 : Int32) (x3 : Int32) (x4 : Int32) (x5 : Int32) (x6 : Int32) (x7 : Int32) (x8 : Int32) (H : Heap) (locs : List Loc) (ls : Array Slot), wv g L σ s H locs → lv_has ls 10 [(0, .ref (L 1 0)), (2, .int x2), (3, .int x3), (4, .int x4), (5, .int x5), (6, .int x6), (7, .int x7), (8, .int x8)] → (m_X1_post_L120 (m_X1_post_L82 (m_X1_post_L177 (m_X1_post_L47 n47)) n82)) σ x2 x3 x4 x5 x6 x7 x8 = some (o_, σ_) → W p l e (wrm 9 232 (xc o_) (xs o_)) s m args below meth c H locs 0 0 (vx_MQ below (wXi g L o_ σ_) (wX g o_ σ_ L) args s (xc o_) (xs o_) (fun q => gz g ≤ q)) (F0 m 120 ls []) := by
              intro σ x2 x3 x4 x5 x6 x7 x8 H locs ls hW hl hs
              unfold m_X1_post_L120 at hs
              refine lv_iinc (v := (x8 + (1 : Int32))) (lv' := [(8, .int (x8 + (1 : Int32))), (0, .ref (L 1 0)), (2, .int x2), (3, .int x3), (4, .int x4), (5, .int x5), (6, .int x6), (7, .int x7)]) hx hb dX1_post_120 hl (k := 7) rfl rfl (by decide) rfl (fun ls hl => ?_)
              refine lv_goto (tgt := 82) hx hb dX1_post_123 (by decide) ?_
              exact ih82 σ x2 x3 x4 x5 x6 x7 (x8 + (1 : Int32)) _ _ ls hW (lv_sub hl [1, 2, 3, 4, 5, 6, 7, 0] rfl) hs
            intro σ x2 x3 x4 x5 x6 x7 x8 H locs ls hW hl hs
            rw [m_X1_post_L82] at hs
            refine lv_iload hx hb dX1_post_82 (lv_at hl 7 rfl) ?_
            refine lv_iload_n hx hb dX1_post_84 rfl (lv_at hl 2 rfl) ?_
            refine lv_icmp_ge (tgt := 126) hx hb dX1_post_85 (by decide) (fun hc6 => ?_) (fun hc6 => ?_)
            · have hs := ww_T hs hc6
              refine lv_aload_n hx hb dX1_post_126 rfl (lv_at hl 0 rfl) ?_
              refine lv_iconst (v := 1) hx hb dX1_post_127 (by decide) ?_
              obtain ⟨v9, σ10, hc7, hs⟩ := ww_bn2 hs
              refine ww_ci (va_runV (As := [.int (1 : Int32)]) (rest := []) ⟨hx, hb, hml, hown, hts⟩ (c_X1_foretells g hgm l L σ (1 : Int32) _ _ hc7) (cwV 1 hts (lw_V q599 q601 qs5 q111 q602) rfl rfl rfl hd_X1_foretells ⟨(Nat.le_of_ble_eq_true rfl), (Nat.le_of_ble_eq_true rfl)⟩) (ww_preV hW (pr_st (hW.rd hgm) (Nat.le_of_ble_eq_true rfl)) (obv_0 rfl) rfl) rfl rfl hl.1 rfl (lv_room (Nat.le_of_ble_eq_true rfl)) dX1_post_128 ⟨Nat.le_of_ble_eq_true rfl, Nat.le_of_ble_eq_true rfl⟩) hW (fun H locs hW => ?_)
              refine lv_istore (lv' := [(8, .int v9), (0, .ref (L 1 0)), (2, .int x2), (3, .int x3), (4, .int x4), (5, .int x5), (6, .int x6), (7, .int x7)]) hx hb dX1_post_131 hl (by decide) rfl (fun ls hl => ?_)
              refine lv_iload hx hb dX1_post_133 (lv_at hl 7 rfl) ?_
              refine lv_iload hx hb dX1_post_135 (lv_at hl 5 rfl) ?_
              refine lv_ixor hx hb dX1_post_137 ?_
              refine lv_istore (lv' := [(9, .int (x7 ^^^ x5)), (8, .int v9), (0, .ref (L 1 0)), (2, .int x2), (3, .int x3), (4, .int x4), (5, .int x5), (6, .int x6), (7, .int x7)]) hx hb dX1_post_138 hl (by decide) rfl (fun ls hl => ?_)
              refine lv_iload hx hb dX1_post_140 (lv_at hl 1 rfl) ?_
              refine lv_iload hx hb dX1_post_142 (lv_at hl 7 rfl) ?_
              refine lv_icmp_gt (tgt := 177) hx hb dX1_post_144 (by decide) (fun hc11 => ?_) (fun hc11 => ?_)
              · have hs := ww_T hs hc11
                exact hL177 σ10 x2 x3 x4 x5 x6 x7 _ _ ls hW (lv_sub hl [2, 3, 4, 5, 6, 7, 8] rfl) hs
              · have hs := ww_F hs hc11
                refine lv_iload hx hb dX1_post_147 (lv_at hl 1 rfl) ?_
                refine lv_iload hx hb dX1_post_149 (lv_at hl 7 rfl) ?_
                refine lv_icmp_ne (tgt := 169) hx hb dX1_post_151 (by decide) (fun hc12 => ?_) (fun hc12 => ?_)
                · have hs := ww_F hs hc12
                  exact hL169 σ10 x2 x3 x4 x7 v9 _ _ ls hW (lv_sub hl [2, 3, 4, 5, 8, 1] rfl) hs
                · have hs := ww_T hs hc12
                  refine lv_iload hx hb dX1_post_154 (lv_at hl 8 rfl) ?_
                  refine lv_iload hx hb dX1_post_156 (lv_at hl 0 rfl) ?_
                  refine lv_iand hx hb dX1_post_158 ?_
                  refine lv_iload hx hb dX1_post_159 (lv_at hl 0 rfl) ?_
                  refine lv_ineg hx hb dX1_post_161 ?_
                  refine lv_iand hx hb dX1_post_162 ?_
                  refine lv_if_ne (tgt := 169) hx hb dX1_post_163 (by decide) (fun hc13 => ?_) (fun hc13 => ?_)
                  · have hs := ww_F hs hc13
                    exact hL169 σ10 x2 x3 x4 x7 v9 _ _ ls hW (lv_sub hl [2, 3, 4, 5, 8, 1] rfl) hs
                  · have hs := ww_T hs hc13
                    refine lv_goto (tgt := 177) hx hb dX1_post_166 (by decide) ?_
                    exact hL177 σ10 x2 x3 x4 x5 x6 x7 _ _ ls hW (lv_sub hl [2, 3, 4, 5, 6, 7, 8] rfl) hs
            · have hs := ww_F hs hc6
              refine lv_iload hx hb dX1_post_88 (lv_at hl 6 rfl) ?_
              refine lv_iload hx hb dX1_post_90 (lv_at hl 7 rfl) ?_
              refine lv_ishr hx hb dX1_post_92 ?_
              refine lv_iconst (v := 1) hx hb dX1_post_93 (by decide) ?_
              refine lv_iand hx hb dX1_post_94 ?_
              refine lv_iconst (v := 1) hx hb dX1_post_95 (by decide) ?_
              refine lv_icmp_ne (tgt := 120) hx hb dX1_post_96 (by decide) (fun hc14 => ?_) (fun hc14 => ?_)
              · have hs := ww_F hs hc14
                exact hL120 σ x2 x3 x4 x5 x6 x7 x8 _ _ ls hW (lv_sub hl [0, 1, 2, 3, 4, 5, 6, 7] rfl) hs
              · have hs := ww_T hs hc14
                refine lv_aload_n hx hb dX1_post_99 rfl (lv_at hl 0 rfl) ?_
                refine gf_X1_48 hx hb hts hown hW (pr_st (hW.rd hgm) (Nat.le_of_ble_eq_true rfl)) (hW.fl hgm (pr_st (hW.rd hgm) (Nat.le_of_ble_eq_true rfl)) 2 (by decide) rfl (by decide)) dX1_post_100 ?_
                refine lv_aload_n hx hb dX1_post_103 rfl (lv_at hl 0 rfl) ?_
                refine gf_X1_97 hx hb hts hown hW (pr_st (hW.rd hgm) (Nat.le_of_ble_eq_true rfl)) (hW.fl hgm (pr_st (hW.rd hgm) (Nat.le_of_ble_eq_true rfl)) 14 (by decide) rfl (by decide)) dX1_post_104 ?_
                refine lv_iload hx hb dX1_post_107 (lv_at hl 7 rfl) ?_
                obtain ⟨hc15, hs⟩ := ww_chk hs
                refine ww_iald hx hb hW 24 0 (pr_st (hW.rd hgm) (Nat.le_of_ble_eq_true rfl)) rfl hc15 dX1_post_109 ?_
                refine lv_aload_n hx hb dX1_post_110 rfl (lv_at hl 0 rfl) ?_
                refine gf_X1_156 hx hb hts hown hW (pr_st (hW.rd hgm) (Nat.le_of_ble_eq_true rfl)) (hW.fl hgm (pr_st (hW.rd hgm) (Nat.le_of_ble_eq_true rfl)) 31 (by decide) rfl (by decide)) dX1_post_111 ?_
                obtain ⟨hc16, hs⟩ := ww_chk hs
                refine gf_X1_299 hx hb hts hown hW (pr_dy hc16 rfl rfl) dX1_post_114 ?_
                obtain ⟨σ19, hc17, hs⟩ := ww_bnd hs
                refine ww_cv (va_runV (As := [.int (gA_ σ 24 0 x8.toNatClampNeg), .int (gF_ σ 87 4 (gP_ σ 1 31 0))]) (rest := []) ⟨hx, hb, hml, hown, hts⟩ (c_X2_frightens g hgm l L σ 1 (gA_ σ 24 0 x8.toNatClampNeg) (gF_ σ 87 4 (gP_ σ 1 31 0)) _ hc17) (cwV 2 hts (lw_V q500 q501 q502 q112 q503) rfl rfl rfl hd_X2_frightens ⟨(Nat.le_of_ble_eq_true rfl), (Nat.le_of_ble_eq_true rfl)⟩) (ww_preV hW (pr_st (hW.rd hgm) (Nat.le_of_ble_eq_true rfl)) (obv_0 rfl) rfl) rfl rfl hl.1 rfl (lv_room (Nat.le_of_ble_eq_true rfl)) dX1_post_117 ⟨Nat.le_of_ble_eq_true rfl, Nat.le_of_ble_eq_true rfl⟩) hW (fun H locs hW => ?_)
                exact hL120 σ19 x2 x3 x4 x5 x6 x7 x8 _ _ ls hW (lv_sub hl [0, 1, 2, 3, 4, 5, 6, 7] rfl) hs
        intro σ x2 x3 x4 x5 x6 x7 H locs ls hW hl hs
        rw [m_X1_post_L47] at hs
        refine lv_iload hx hb dX1_post_47 (lv_at hl 6 rfl) ?_
        refine lv_iconst (v := 1) hx hb dX1_post_49 (by decide) ?_
        refine lv_iload_n hx hb dX1_post_50 rfl (lv_at hl 2 rfl) ?_
        refine lv_ishl hx hb dX1_post_51 ?_
        refine lv_icmp_ge (tgt := 183) hx hb dX1_post_52 (by decide) (fun hc20 => ?_) (fun hc20 => ?_)
        · have hs := ww_T hs hc20
          refine lv_iload_n hx hb dX1_post_183 rfl (lv_at hl 1 rfl) ?_
          refine lv_istore (lv' := [(7, .int x2), (0, .ref (L 1 0)), (2, .int x2), (3, .int x3), (4, .int x4), (5, .int x5), (6, .int x6)]) hx hb dX1_post_184 hl (by decide) rfl (fun ls hl => ?_)
          refine lv_iconst (v := 0) hx hb dX1_post_186 (by decide) ?_
          refine lv_istore (lv' := [(8, .int (0 : Int32)), (7, .int x2), (0, .ref (L 1 0)), (2, .int x2), (3, .int x3), (4, .int x4), (5, .int x5), (6, .int x6)]) hx hb dX1_post_187 hl (by decide) rfl (fun ls hl => ?_)
          exact hL189 fu_ σ x2 x3 x5 x2 (0 : Int32) _ _ ls hW (lv_sub hl [2, 3, 4, 6, 1, 0] rfl) hs
        · have hs := ww_F hs hc20
          refine lv_iload hx hb dX1_post_55 (lv_at hl 6 rfl) ?_
          obtain ⟨v23, hc21, hs⟩ := ww_bnd hs
          refine ww_ci (va_runS (As := [.int x7]) (rest := []) ⟨hx, hb, hml, hown, hts⟩ (c_J19_bitCount g hgm l L σ x7 _ hc21) (va_cwS 1 hts (lw_S q1275 q1276 q149 q1277) rfl rfl rfl hd_J19_bitCount.2 ⟨(Nat.le_of_ble_eq_true rfl), (Nat.le_of_ble_eq_true rfl)⟩) (ww_preS hW) rfl rfl hl.1 rfl (lv_room (Nat.le_of_ble_eq_true rfl)) dX1_post_57 ⟨Nat.le_of_ble_eq_true rfl, Nat.le_of_ble_eq_true rfl⟩) hW (fun H locs hW => ?_)
          refine lv_iload hx hb dX1_post_60 (lv_at hl 3 rfl) ?_
          refine lv_icmp_eq (tgt := 68) hx hb dX1_post_62 (by decide) (fun hc24 => ?_) (fun hc24 => ?_)
          · have hs := ww_T hs hc24
            refine lv_aload_n hx hb dX1_post_68 rfl (lv_at hl 0 rfl) ?_
            refine gf_X1_48 hx hb hts hown hW (pr_st (hW.rd hgm) (Nat.le_of_ble_eq_true rfl)) (hW.fl hgm (pr_st (hW.rd hgm) (Nat.le_of_ble_eq_true rfl)) 2 (by decide) rfl (by decide)) dX1_post_69 ?_
            refine lv_aload_n hx hb dX1_post_72 rfl (lv_at hl 0 rfl) ?_
            refine gf_X1_44 hx hb hts hown hW (pr_st (hW.rd hgm) (Nat.le_of_ble_eq_true rfl)) (hW.fl hgm (pr_st (hW.rd hgm) (Nat.le_of_ble_eq_true rfl)) 1 (by decide) rfl (by decide)) dX1_post_73 ?_
            obtain ⟨σ27, hc25, hs⟩ := ww_bnd hs
            refine ww_cv (va_runV (As := [.ref (L 50 0)]) (rest := []) ⟨hx, hb, hml, hown, hts⟩ (c_X2_like g hgm l L σ 1 0 _ hc25) (cwV 1 hts (lw_V q489 q490 q491 q112 q492) rfl rfl rfl hd_X2_like ⟨(Nat.le_of_ble_eq_true rfl), (Nat.le_of_ble_eq_true rfl)⟩) (ww_preV hW (pr_st (hW.rd hgm) (Nat.le_of_ble_eq_true rfl)) (obv_0 rfl) rfl) rfl rfl hl.1 rfl (lv_room (Nat.le_of_ble_eq_true rfl)) dX1_post_76 ⟨Nat.le_of_ble_eq_true rfl, Nat.le_of_ble_eq_true rfl⟩) hW (fun H locs hW => ?_)
            refine lv_iconst (v := 0) hx hb dX1_post_79 (by decide) ?_
            refine lv_istore (lv' := [(8, .int (0 : Int32)), (0, .ref (L 1 0)), (2, .int x2), (3, .int x3), (4, .int x4), (5, .int x5), (6, .int x6), (7, .int x7)]) hx hb dX1_post_80 hl (by decide) rfl (fun ls hl => ?_)
            exact hL82 fu_ σ27 x2 x3 x4 x5 x6 x7 (0 : Int32) _ _ ls hW (lv_sub hl [1, 2, 3, 4, 5, 6, 7, 0] rfl) hs
          · have hs := ww_F hs hc24
            refine lv_goto (tgt := 177) hx hb dX1_post_65 (by decide) ?_
            exact hL177 σ x2 x3 x4 x5 x6 x7 _ _ ls hW (lv_sub hl [0, 1, 2, 3, 4, 5, 6] rfl) hs
    intro σ x1 x2 t0 H locs ls hW hl hs
    unfold m_X1_post_L14 at hs
    obtain ⟨o30, hc28, hs⟩ := ww_bnd hs
    rcases o30 with k31 | v32
    · have hs := ww_sL hs
      have hs := ww_S hs
      have e1 : o_ = .inl k31 := congrArg Prod.fst hs
      have e2 : σ_ = σ := congrArg Prod.snd hs
      subst e1
      exact wx_prop (vx_runS (As := [.int t0]) (rest := []) ⟨hx, hb, hml, hown, hts⟩ (c_X1_wrong g hgm l L σ t0 hst _ hc28) (va_cwS 1 hts (lw_S q848 q849 q111 q850) rfl rfl rfl hd_X1_wrong.2 ⟨(Nat.le_of_ble_eq_true rfl), (Nat.le_of_ble_eq_true rfl)⟩) (ww_preS hW) rfl rfl hl.1 rfl (lv_room (Nat.le_of_ble_eq_true rfl)) dX1_post_14 ⟨Nat.le_of_ble_eq_true rfl, Nat.le_of_ble_eq_true rfl⟩) no_v hW hlocks hout rfl e2 (Nat.le_of_ble_eq_true rfl) (Nat.le_of_ble_eq_true rfl)
    · have hs := ww_sR hs
      refine ww_xv0 (vx_runS (As := [.int t0]) (rest := []) ⟨hx, hb, hml, hown, hts⟩ (c_X1_wrong g hgm l L σ t0 hst _ hc28) (va_cwS 1 hts (lw_S q848 q849 q111 q850) rfl rfl rfl hd_X1_wrong.2 ⟨(Nat.le_of_ble_eq_true rfl), (Nat.le_of_ble_eq_true rfl)⟩) (ww_preS hW) rfl rfl hl.1 rfl (lv_room (Nat.le_of_ble_eq_true rfl)) dX1_post_14 ⟨Nat.zero_le _, Nat.zero_le _⟩) hW (fun H locs hW => ?_)
      refine lv_aload_n hx hb dX1_post_17 rfl (lv_at hl 0 rfl) ?_
      refine gf_X1_44 hx hb hts hown hW (pr_st (hW.rd hgm) (Nat.le_of_ble_eq_true rfl)) (hW.fl hgm (pr_st (hW.rd hgm) (Nat.le_of_ble_eq_true rfl)) 1 (by decide) rfl (by decide)) dX1_post_18 ?_
      refine lv_aload_n hx hb dX1_post_21 rfl (lv_at hl 0 rfl) ?_
      refine gf_X1_97 hx hb hts hown hW (pr_st (hW.rd hgm) (Nat.le_of_ble_eq_true rfl)) (hW.fl hgm (pr_st (hW.rd hgm) (Nat.le_of_ble_eq_true rfl)) 14 (by decide) rfl (by decide)) dX1_post_22 ?_
      obtain ⟨v35, σ36, hc33, hs⟩ := ww_bn2 hs
      refine ww_ci (va_runV (As := [.ref (L 24 0)]) (rest := []) ⟨hx, hb, hml, hown, hts⟩ (c_X2_ripe g hgm l L σ 0 _ _ hc33) (cwV 1 hts (lw_V q1241 q1242 q1243 q112 q1244) rfl rfl rfl hd_X2_ripe ⟨(Nat.le_of_ble_eq_true rfl), (Nat.le_of_ble_eq_true rfl)⟩) (ww_preV hW (pr_st (hW.rd hgm) (Nat.le_of_ble_eq_true rfl)) (obv_0 rfl) rfl) rfl rfl hl.1 rfl (lv_room (Nat.le_of_ble_eq_true rfl)) dX1_post_25 ⟨Nat.le_of_ble_eq_true rfl, Nat.le_of_ble_eq_true rfl⟩) hW (fun H locs hW => ?_)
      refine lv_istore_n (lv' := [(3, .int v35), (0, .ref (L 1 0)), (1, .int x1), (2, .int x2)]) hx hb dX1_post_28 rfl hl (by decide) rfl (fun ls hl => ?_)
      refine lv_iload_n hx hb dX1_post_29 rfl (lv_at hl 2 rfl) ?_
      refine lv_iload_n hx hb dX1_post_30 rfl (lv_at hl 0 rfl) ?_
      refine va_mmin hx hb (hml.trans hl.1.symm) hown (hts _ q573) (hts _ q505) (hts _ q134) (hts _ q506) (Nat.le_of_ble_eq_true rfl) (Nat.le_of_ble_eq_true rfl) (Nat.le_of_ble_eq_true rfl) (Nat.le_of_ble_eq_true rfl) dX1_post_31 ?_
      refine lv_istore (lv' := [(4, .int (imin x1 v35)), (3, .int v35), (0, .ref (L 1 0)), (1, .int x1), (2, .int x2)]) hx hb dX1_post_34 hl (by decide) rfl (fun ls hl => ?_)
      refine lv_iconst (v := 0) hx hb dX1_post_36 (by decide) ?_
      refine lv_istore (lv' := [(5, .int (0 : Int32)), (4, .int (imin x1 v35)), (3, .int v35), (0, .ref (L 1 0)), (1, .int x1), (2, .int x2)]) hx hb dX1_post_37 hl (by decide) rfl (fun ls hl => ?_)
      refine lv_ldcw hx hb hown (hts _ q567) dX1_post_39 ?_
      refine lv_istore (lv' := [(6, .int (1000000000 : Int32)), (5, .int (0 : Int32)), (4, .int (imin x1 v35)), (3, .int v35), (0, .ref (L 1 0)), (1, .int x1), (2, .int x2)]) hx hb dX1_post_42 hl (by decide) rfl (fun ls hl => ?_)
      refine lv_iconst (v := 0) hx hb dX1_post_44 (by decide) ?_
      refine lv_istore (lv' := [(7, .int (0 : Int32)), (6, .int (1000000000 : Int32)), (5, .int (0 : Int32)), (4, .int (imin x1 v35)), (3, .int v35), (0, .ref (L 1 0)), (1, .int x1), (2, .int x2)]) hx hb dX1_post_45 hl (by decide) rfl (fun ls hl => ?_)
      exact hL47 fu_ σ36 x2 v35 (imin x1 v35) (0 : Int32) (1000000000 : Int32) (0 : Int32) _ _ ls hW (lv_sub hl [5, 7, 4, 3, 2, 1, 0] rfl) hs
  refine lv_iload_n hx hb dX1_post_0 rfl (lv_at hl 1 rfl) ?_
  refine lv_iconst (v := 1) hx hb dX1_post_1 (by decide) ?_
  refine lv_iconst (v := 3) hx hb dX1_post_2 (by decide) ?_
  obtain ⟨v39, hc37, hs⟩ := ww_bnd hs
  refine ww_ci (va_runS (As := [.int a1, .int (1 : Int32), .int (3 : Int32)]) (rest := []) ⟨hx, hb, hml, hown, hts⟩ (c_X1_in g hgm l L σ a1 (1 : Int32) (3 : Int32) _ hc37) (va_cwS 3 hts (lw_S q824 q825 q111 q826) rfl rfl rfl hd_X1_in.2 ⟨(Nat.le_of_ble_eq_true rfl), (Nat.le_of_ble_eq_true rfl)⟩) (ww_preS hW) rfl rfl hl.1 rfl (lv_room (Nat.le_of_ble_eq_true rfl)) dX1_post_3 ⟨Nat.le_of_ble_eq_true rfl, Nat.le_of_ble_eq_true rfl⟩) hW (fun H locs hW => ?_)
  refine lv_if_ne (tgt := 13) hx hb dX1_post_6 (by decide) (fun hc40 => ?_) (fun hc40 => ?_)
  · have hs := ww_F hs hc40
    refine lv_iconst (v := 0) hx hb dX1_post_13 (by decide) ?_
    exact hL14 σ a1 a2 (0 : Int32) _ _ ls hW (lv_sub hl [0, 1, 2] rfl) hs
  · have hs := ww_T hs hc40
    refine lv_iconst (v := 1) hx hb dX1_post_9 (by decide) ?_
    refine lv_goto (tgt := 14) hx hb dX1_post_10 (by decide) ?_
    exact hL14 σ a1 a2 (1 : Int32) _ _ ls hW (lv_sub hl [0, 1, 2] rfl) hs
set_option maxHeartbeats 4000000 in
theorem c_X1_places (g : wg_T) (hgm : gm g = true) (l : Launch) (L : ly_T) (σ : st_T) (i1 : Nat) (a2 : Int32) (σ_ : st_T) (hs : m_X1_places σ i1 a2 = some σ_) : CV g l yX1_places (ws_ yX1_places cX1_places 6 none) 5 132 0 0 [.ref (L 1 0), .ref (L 80 i1), .int a2] L σ σ_ := by
  refine wbody.met (by decide) (Nat.le_of_ble_eq_true rfl) ?_
  intro p e s m args below meth c ls hx hb hr hml hlocks hts hown hnm hW hl
  have hown : s.vm.findClass RX1 = some m.cls := hown
  have hl : lv_has ls 6 [(0, .ref (L 1 0)), (1, .ref (L 80 i1)), (2, .int a2)] := hl
  unfold m_X1_places at hs
  have hL2 : ∀ (n2 : Nat), ∀ (σ : st_T) (x2 : Int32) (x3 : Int32) (H : Heap) (locs : List Loc) (ls : Array Slot), wv g L σ s H locs → lv_has ls 6 [(0, .ref (L 1 0)), (1, .ref (L 80 i1)), (2, .int x2), (3, .int x3)] → (m_X1_places_L2 i1 n2) σ x2 x3 = some σ_ → W p l e (wrm 5 132 0 0) s m args below meth c H locs 0 0 (MQ below (wQv g L σ_) args s 0 0 (fun q => gz g ≤ q)) (F0 m 2 ls []) := by
    intro n2
    induction n2 with
    | zero => intro σ x2 x3 H locs ls hW hl hs; rw [m_X1_places_L2] at hs; cases hs
    | succ n2 ih2 =>
      have hL36 : ∀ (n36 : Nat), ∀ (σ : st_T) (x2 : Int32) (x3 : Int32) (x4 : Int32) (x5 : Int32) (H : Heap) (locs : List Loc) (ls : Array Slot), wv g L σ s H locs → lv_has ls 6 [(0, .ref (L 1 0)), (1, .ref (L 80 i1)), (2, .int x2), (3, .int x3), (4, .int x4), (5, .int x5)] → (m_X1_places_L36 i1 n36) σ x2 x3 x4 x5 = some σ_ → W p l e (wrm 5 132 0 0) s m args below meth c H locs 0 0 (MQ below (wQv g L σ_) args s 0 0 (fun q => gz g ≤ q)) (F0 m 36 ls []) := by
        intro n36
        induction n36 with
        | zero => intro σ x2 x3 x4 x5 H locs ls hW hl hs; rw [m_X1_places_L36] at hs; cases hs
        | succ n36 ih36 =>
          have hL123 : ∀ (σ : st_T) (x2 : Int32) (x4 : Int32) (H : Heap) (locs : List Loc) (ls : Array Slot), wv g L σ s H locs → lv_has ls 6 [(0, .ref (L 1 0)), (1, .ref (L 80 i1)), (2, .int x2), (4, .int x4)] → (m_X1_places_L123 i1) σ x2 x4 = some σ_ → W p l e (wrm 5 132 0 0) s m args below meth c H locs 0 0 (MQ below (wQv g L σ_) args s 0 0 (fun q => gz g ≤ q)) (F0 m 123 ls []) := by
            have hL154 : ∀ (σ : st_T)  (H : Heap) (locs : List Loc) (ls : Array Slot), wv g L σ s H locs → lv_has ls 6 [] → (m_X1_places_L154 i1) σ = some σ_ → W p l e (wrm 5 132 0 0) s m args below meth c H locs 0 0 (MQ below (wQv g L σ_) args s 0 0 (fun q => gz g ≤ q)) (F0 m 154 ls []) := by
              intro σ H locs ls hW hl hs
              unfold m_X1_places_L154 at hs
              have hs := ww_S hs
              exact we_v hx hb hr hlocks hW hs (Nat.le_of_ble_eq_true rfl) (Nat.le_of_ble_eq_true rfl) dX1_places_154
            intro σ x2 x4 H locs ls hW hl hs
            unfold m_X1_places_L123 at hs
            refine lv_iload hx hb dX1_places_123 (lv_at hl 3 rfl) ?_
            refine lv_iconst (v := (-1)) hx hb dX1_places_125 (by decide) ?_
            refine lv_icmp_eq (tgt := 154) hx hb dX1_places_126 (by decide) (fun hc1 => ?_) (fun hc1 => ?_)
            · have hs := ww_T hs hc1
              exact hL154 σ _ _ ls hW (lv_sub hl [] rfl) hs
            · have hs := ww_F hs hc1
              refine lv_aload_n hx hb dX1_places_129 rfl (lv_at hl 0 rfl) ?_
              refine lv_aload_n hx hb dX1_places_130 rfl (lv_at hl 1 rfl) ?_
              obtain ⟨hc2, hs⟩ := ww_chk hs
              refine gf_X1_206 hx hb hts hown hW (pr_dy hc2 rfl rfl) (hW.fl hgm (pr_dy hc2 rfl rfl) 4 (by decide) rfl (by decide)) dX1_places_131 ?_
              refine lv_iload hx hb dX1_places_134 (lv_at hl 3 rfl) ?_
              obtain ⟨hc3, hs⟩ := ww_chk hs
              obtain ⟨hc4, hs⟩ := ww_chk hs
              refine ww_iald hx hb hW 82 i1 (pr_dy hc3 rfl rfl) rfl hc4 dX1_places_136 ?_
              refine lv_aload_n hx hb dX1_places_137 rfl (lv_at hl 1 rfl) ?_
              refine gf_X1_437 hx hb hts hown hW (pr_dy hc2 rfl rfl) dX1_places_138 ?_
              refine lv_aload_n hx hb dX1_places_141 rfl (lv_at hl 1 rfl) ?_
              refine gf_X1_434 hx hb hts hown hW (pr_dy hc2 rfl rfl) (hW.fl hgm (pr_dy hc2 rfl rfl) 3 (by decide) rfl (by decide)) dX1_places_142 ?_
              refine lv_iload hx hb dX1_places_145 (lv_at hl 3 rfl) ?_
              obtain ⟨hc5, hs⟩ := ww_chk hs
              refine ww_iald hx hb hW 81 i1 (pr_dy hc5 rfl rfl) rfl hc4 dX1_places_147 ?_
              refine lv_iload_n hx hb dX1_places_148 rfl (lv_at hl 2 rfl) ?_
              refine lv_isub hx hb dX1_places_149 ?_
              refine lv_imul hx hb dX1_places_150 ?_
              obtain ⟨σ8, hc6, hs⟩ := ww_bnd hs
              refine ww_cv (va_runV (As := [.int (gA_ σ 82 i1 x4.toNatClampNeg), .int ((gF_ σ 80 2 i1) * ((gA_ σ 81 i1 x4.toNatClampNeg) - x2))]) (rest := []) ⟨hx, hb, hml, hown, hts⟩ (c_X1_near g hgm l L σ (gA_ σ 82 i1 x4.toNatClampNeg) ((gF_ σ 80 2 i1) * ((gA_ σ 81 i1 x4.toNatClampNeg) - x2)) _ hc6) (cwV 2 hts (lw_V q1500 q1502 qs35 q111 q1503) rfl rfl rfl hd_X1_near ⟨(Nat.le_of_ble_eq_true rfl), (Nat.le_of_ble_eq_true rfl)⟩) (ww_preV hW (pr_st (hW.rd hgm) (Nat.le_of_ble_eq_true rfl)) (obv_0 rfl) rfl) rfl rfl hl.1 rfl (lv_room (Nat.le_of_ble_eq_true rfl)) dX1_places_151 ⟨Nat.le_of_ble_eq_true rfl, Nat.le_of_ble_eq_true rfl⟩) hW (fun H locs hW => ?_)
              exact hL154 σ8 _ _ ls hW (lv_sub hl [] rfl) hs
          have hL62 : ∀ (σ : st_T) (x2 : Int32) (x4 : Int32) (x5 : Int32) (t0 : Int32) (H : Heap) (locs : List Loc) (ls : Array Slot), wv g L σ s H locs → lv_has ls 6 [(0, .ref (L 1 0)), (1, .ref (L 80 i1)), (2, .int x2), (4, .int x4), (5, .int x5)] → (m_X1_places_L62 i1 (m_X1_places_L36 i1 n36)) σ x2 x4 x5 t0 = some σ_ → W p l e (wrm 5 132 0 0) s m args below meth c H locs 0 0 (MQ below (wQv g L σ_) args s 0 0 (fun q => gz g ≤ q)) (F0 m 62 ls [.int t0]) := by
            have hL87 : ∀ (σ : st_T) (x2 : Int32) (x3 : Int32) (x5 : Int32) (t0 : Int32) (H : Heap) (locs : List Loc) (ls : Array Slot), wv g L σ s H locs → lv_has ls 6 [(0, .ref (L 1 0)), (1, .ref (L 80 i1)), (2, .int x2), (3, .int x3), (5, .int x5)] → (m_X1_places_L87 i1 (m_X1_places_L36 i1 n36)) σ x2 x3 x5 t0 = some σ_ → W p l e (wrm 5 132 0 0) s m args below meth c H locs 0 0 (MQ below (wQv g L σ_) args s 0 0 (fun q => gz g ≤ q)) (F0 m 87 ls [.int t0]) := by
              intro σ x2 x3 x5 t0 H locs ls hW hl hs
              unfold m_X1_places_L87 at hs
              refine lv_istore (lv' := [(4, .int t0), (0, .ref (L 1 0)), (1, .ref (L 80 i1)), (2, .int x2), (3, .int x3), (5, .int x5)]) hx hb dX1_places_87 hl (by decide) rfl (fun ls hl => ?_)
              refine lv_iinc (v := (x5 + (1 : Int32))) (lv' := [(5, .int (x5 + (1 : Int32))), (4, .int t0), (0, .ref (L 1 0)), (1, .ref (L 80 i1)), (2, .int x2), (3, .int x3)]) hx hb dX1_places_89 hl (k := 5) rfl rfl (by decide) rfl (fun ls hl => ?_)
              refine lv_goto (tgt := 36) hx hb dX1_places_92 (by decide) ?_
              exact ih36 σ x2 x3 t0 (x5 + (1 : Int32)) _ _ ls hW (lv_sub hl [2, 3, 4, 5, 1, 0] rfl) hs
            have hL85 : ∀ (σ : st_T) (x2 : Int32) (x3 : Int32) (x4 : Int32) (x5 : Int32) (H : Heap) (locs : List Loc) (ls : Array Slot), wv g L σ s H locs → lv_has ls 6 [(0, .ref (L 1 0)), (1, .ref (L 80 i1)), (2, .int x2), (3, .int x3), (4, .int x4), (5, .int x5)] → (m_X1_places_L85 i1 (m_X1_places_L87 i1 (m_X1_places_L36 i1 n36))) σ x2 x3 x4 x5 = some σ_ → W p l e (wrm 5 132 0 0) s m args below meth c H locs 0 0 (MQ below (wQv g L σ_) args s 0 0 (fun q => gz g ≤ q)) (F0 m 85 ls []) := by
              intro σ x2 x3 x4 x5 H locs ls hW hl hs
              unfold m_X1_places_L85 at hs
              refine lv_iload hx hb dX1_places_85 (lv_at hl 4 rfl) ?_
              exact hL87 σ x2 x3 x5 x4 _ _ ls hW (lv_sub hl [0, 1, 2, 3, 5] rfl) hs
            intro σ x2 x4 x5 t0 H locs ls hW hl hs
            unfold m_X1_places_L62 at hs
            refine lv_istore_n (lv' := [(3, .int t0), (0, .ref (L 1 0)), (1, .ref (L 80 i1)), (2, .int x2), (4, .int x4), (5, .int x5)]) hx hb dX1_places_62 rfl hl (by decide) rfl (fun ls hl => ?_)
            refine lv_iload hx hb dX1_places_63 (lv_at hl 4 rfl) ?_
            refine lv_iconst (v := (-1)) hx hb dX1_places_65 (by decide) ?_
            refine lv_icmp_ne (tgt := 85) hx hb dX1_places_66 (by decide) (fun hc9 => ?_) (fun hc9 => ?_)
            · have hs := ww_F hs hc9
              exact hL85 σ x2 t0 x4 x5 _ _ ls hW (lv_sub hl [1, 2, 3, 0, 4, 5] rfl) hs
            · have hs := ww_T hs hc9
              refine lv_aload_n hx hb dX1_places_69 rfl (lv_at hl 2 rfl) ?_
              obtain ⟨hc10, hs⟩ := ww_chk hs
              refine gf_X1_434 hx hb hts hown hW (pr_dy hc10 rfl rfl) (hW.fl hgm (pr_dy hc10 rfl rfl) 3 (by decide) rfl (by decide)) dX1_places_70 ?_
              refine lv_iload hx hb dX1_places_73 (lv_at hl 5 rfl) ?_
              obtain ⟨hc11, hs⟩ := ww_chk hs
              obtain ⟨hc12, hs⟩ := ww_chk hs
              refine ww_iald hx hb hW 81 i1 (pr_dy hc11 rfl rfl) rfl hc12 dX1_places_75 ?_
              refine lv_iload_n hx hb dX1_places_76 rfl (lv_at hl 3 rfl) ?_
              refine lv_icmp_lt (tgt := 85) hx hb dX1_places_77 (by decide) (fun hc13 => ?_) (fun hc13 => ?_)
              · have hs := ww_T hs hc13
                exact hL85 σ x2 t0 x4 x5 _ _ ls hW (lv_sub hl [1, 2, 3, 0, 4, 5] rfl) hs
              · have hs := ww_F hs hc13
                refine lv_iload hx hb dX1_places_80 (lv_at hl 5 rfl) ?_
                refine lv_goto (tgt := 87) hx hb dX1_places_82 (by decide) ?_
                exact hL87 σ x2 t0 x5 x5 _ _ ls hW (lv_sub hl [1, 2, 3, 0, 5] rfl) hs
          intro σ x2 x3 x4 x5 H locs ls hW hl hs
          rw [m_X1_places_L36] at hs
          refine lv_iload hx hb dX1_places_36 (lv_at hl 5 rfl) ?_
          refine lv_aload_n hx hb dX1_places_38 rfl (lv_at hl 1 rfl) ?_
          obtain ⟨hc14, hs⟩ := ww_chk hs
          refine gf_X1_203 hx hb hts hown hW (pr_dy hc14 rfl rfl) dX1_places_39 ?_
          refine lv_icmp_ge (tgt := 95) hx hb dX1_places_42 (by decide) (fun hc15 => ?_) (fun hc15 => ?_)
          · have hs := ww_T hs hc15
            refine lv_iload_n hx hb dX1_places_95 rfl (lv_at hl 3 rfl) ?_
            refine lv_iconst (v := (-1)) hx hb dX1_places_96 (by decide) ?_
            refine lv_icmp_eq (tgt := 123) hx hb dX1_places_97 (by decide) (fun hc16 => ?_) (fun hc16 => ?_)
            · have hs := ww_T hs hc16
              exact hL123 σ x2 x4 _ _ ls hW (lv_sub hl [0, 1, 2, 4] rfl) hs
            · have hs := ww_F hs hc16
              refine lv_aload_n hx hb dX1_places_100 rfl (lv_at hl 0 rfl) ?_
              refine lv_aload_n hx hb dX1_places_101 rfl (lv_at hl 1 rfl) ?_
              refine gf_X1_206 hx hb hts hown hW (pr_dy hc14 rfl rfl) (hW.fl hgm (pr_dy hc14 rfl rfl) 4 (by decide) rfl (by decide)) dX1_places_102 ?_
              refine lv_iload_n hx hb dX1_places_105 rfl (lv_at hl 3 rfl) ?_
              obtain ⟨hc17, hs⟩ := ww_chk hs
              obtain ⟨hc18, hs⟩ := ww_chk hs
              refine ww_iald hx hb hW 82 i1 (pr_dy hc17 rfl rfl) rfl hc18 dX1_places_106 ?_
              refine lv_aload_n hx hb dX1_places_107 rfl (lv_at hl 1 rfl) ?_
              refine gf_X1_437 hx hb hts hown hW (pr_dy hc14 rfl rfl) dX1_places_108 ?_
              refine lv_iload_n hx hb dX1_places_111 rfl (lv_at hl 2 rfl) ?_
              refine lv_aload_n hx hb dX1_places_112 rfl (lv_at hl 1 rfl) ?_
              refine gf_X1_434 hx hb hts hown hW (pr_dy hc14 rfl rfl) (hW.fl hgm (pr_dy hc14 rfl rfl) 3 (by decide) rfl (by decide)) dX1_places_113 ?_
              refine lv_iload_n hx hb dX1_places_116 rfl (lv_at hl 3 rfl) ?_
              obtain ⟨hc19, hs⟩ := ww_chk hs
              refine ww_iald hx hb hW 81 i1 (pr_dy hc19 rfl rfl) rfl hc18 dX1_places_117 ?_
              refine lv_isub hx hb dX1_places_118 ?_
              refine lv_imul hx hb dX1_places_119 ?_
              obtain ⟨σ22, hc20, hs⟩ := ww_bnd hs
              refine ww_cv (va_runV (As := [.int (gA_ σ 82 i1 x3.toNatClampNeg), .int ((gF_ σ 80 2 i1) * (x2 - (gA_ σ 81 i1 x3.toNatClampNeg)))]) (rest := []) ⟨hx, hb, hml, hown, hts⟩ (c_X1_near g hgm l L σ (gA_ σ 82 i1 x3.toNatClampNeg) ((gF_ σ 80 2 i1) * (x2 - (gA_ σ 81 i1 x3.toNatClampNeg))) _ hc20) (cwV 2 hts (lw_V q1500 q1502 qs35 q111 q1503) rfl rfl rfl hd_X1_near ⟨(Nat.le_of_ble_eq_true rfl), (Nat.le_of_ble_eq_true rfl)⟩) (ww_preV hW (pr_st (hW.rd hgm) (Nat.le_of_ble_eq_true rfl)) (obv_0 rfl) rfl) rfl rfl hl.1 rfl (lv_room (Nat.le_of_ble_eq_true rfl)) dX1_places_120 ⟨Nat.le_of_ble_eq_true rfl, Nat.le_of_ble_eq_true rfl⟩) hW (fun H locs hW => ?_)
              exact hL123 σ22 x2 x4 _ _ ls hW (lv_sub hl [0, 1, 2, 4] rfl) hs
          · have hs := ww_F hs hc15
            refine lv_aload_n hx hb dX1_places_45 rfl (lv_at hl 1 rfl) ?_
            refine gf_X1_434 hx hb hts hown hW (pr_dy hc14 rfl rfl) (hW.fl hgm (pr_dy hc14 rfl rfl) 3 (by decide) rfl (by decide)) dX1_places_46 ?_
            refine lv_iload hx hb dX1_places_49 (lv_at hl 5 rfl) ?_
            obtain ⟨hc23, hs⟩ := ww_chk hs
            obtain ⟨hc24, hs⟩ := ww_chk hs
            refine ww_iald hx hb hW 81 i1 (pr_dy hc23 rfl rfl) rfl hc24 dX1_places_51 ?_
            refine lv_iload_n hx hb dX1_places_52 rfl (lv_at hl 2 rfl) ?_
            refine lv_icmp_gt (tgt := 61) hx hb dX1_places_53 (by decide) (fun hc25 => ?_) (fun hc25 => ?_)
            · have hs := ww_T hs hc25
              refine lv_iload_n hx hb dX1_places_61 rfl (lv_at hl 3 rfl) ?_
              exact hL62 σ x2 x4 x5 x3 _ _ ls hW (lv_sub hl [0, 1, 2, 4, 5] rfl) hs
            · have hs := ww_F hs hc25
              refine lv_iload hx hb dX1_places_56 (lv_at hl 5 rfl) ?_
              refine lv_goto (tgt := 62) hx hb dX1_places_58 (by decide) ?_
              exact hL62 σ x2 x4 x5 x5 _ _ ls hW (lv_sub hl [0, 1, 2, 4, 5] rfl) hs
      intro σ x2 x3 H locs ls hW hl hs
      rw [m_X1_places_L2] at hs
      refine lv_iload_n hx hb dX1_places_2 rfl (lv_at hl 3 rfl) ?_
      refine lv_bipush (v := 64) hx hb dX1_places_3 (by decide) ?_
      refine lv_icmp_ge (tgt := 28) hx hb dX1_places_5 (by decide) (fun hc26 => ?_) (fun hc26 => ?_)
      · have hs := ww_T hs hc26
        refine lv_iconst (v := (-1)) hx hb dX1_places_28 (by decide) ?_
        refine lv_istore_n (lv' := [(3, .int (-1 : Int32)), (0, .ref (L 1 0)), (1, .ref (L 80 i1)), (2, .int x2)]) hx hb dX1_places_29 rfl hl (by decide) rfl (fun ls hl => ?_)
        refine lv_iconst (v := (-1)) hx hb dX1_places_30 (by decide) ?_
        refine lv_istore (lv' := [(4, .int (-1 : Int32)), (3, .int (-1 : Int32)), (0, .ref (L 1 0)), (1, .ref (L 80 i1)), (2, .int x2)]) hx hb dX1_places_31 hl (by decide) rfl (fun ls hl => ?_)
        refine lv_iconst (v := 0) hx hb dX1_places_33 (by decide) ?_
        refine lv_istore (lv' := [(5, .int (0 : Int32)), (4, .int (-1 : Int32)), (3, .int (-1 : Int32)), (0, .ref (L 1 0)), (1, .ref (L 80 i1)), (2, .int x2)]) hx hb dX1_places_34 hl (by decide) rfl (fun ls hl => ?_)
        exact hL36 fu_ σ x2 (-1 : Int32) (-1 : Int32) (0 : Int32) _ _ ls hW (lv_sub hl [3, 4, 5, 2, 1, 0] rfl) hs
      · have hs := ww_F hs hc26
        refine lv_aload_n hx hb dX1_places_8 rfl (lv_at hl 0 rfl) ?_
        refine gf_X1_140 hx hb hts hown hW (pr_st (hW.rd hgm) (Nat.le_of_ble_eq_true rfl)) (hW.fl hgm (pr_st (hW.rd hgm) (Nat.le_of_ble_eq_true rfl)) 28 (by decide) rfl (by decide)) dX1_places_9 ?_
        refine lv_iload_n hx hb dX1_places_12 rfl (lv_at hl 3 rfl) ?_
        refine lv_aload_n hx hb dX1_places_13 rfl (lv_at hl 0 rfl) ?_
        refine gf_X1_44 hx hb hts hown hW (pr_st (hW.rd hgm) (Nat.le_of_ble_eq_true rfl)) (hW.fl hgm (pr_st (hW.rd hgm) (Nat.le_of_ble_eq_true rfl)) 1 (by decide) rfl (by decide)) dX1_places_14 ?_
        refine lv_iload_n hx hb dX1_places_17 rfl (lv_at hl 3 rfl) ?_
        obtain ⟨v29, hc27, hs⟩ := ww_bnd hs
        refine ww_ci (va_runV (As := [.int x3]) (rest := [.int x3, .ref (L 38 0)]) ⟨hx, hb, hml, hown, hts⟩ (c_X2_isOpen g hgm l L σ 0 x3 _ hc27) (cwV 1 hts (lw_V q1246 q548 q549 q112 q550) rfl rfl rfl hd_X2_isOpen ⟨(Nat.le_of_ble_eq_true rfl), (Nat.le_of_ble_eq_true rfl)⟩) (ww_preV hW (pr_st (hW.rd hgm) (Nat.le_of_ble_eq_true rfl)) (obv_0 rfl) rfl) rfl rfl hl.1 rfl (lv_room (Nat.le_of_ble_eq_true rfl)) dX1_places_18 ⟨Nat.le_of_ble_eq_true rfl, Nat.le_of_ble_eq_true rfl⟩) hW (fun H locs hW => ?_)
        obtain ⟨hc30, hs⟩ := ww_chk hs
        obtain ⟨σ31, e32, hs⟩ := ww_let hs
        refine ww_zast hx hb hW 38 0 (pr_st (hW.rd hgm) (Nat.le_of_ble_eq_true rfl)) rfl hc30 dX1_places_21 (fun H locs hW => ?_)
        have hW : wv g L σ31 s H locs := by rw [e32]; exact hW
        refine lv_iinc (v := (x3 + (1 : Int32))) (lv' := [(3, .int (x3 + (1 : Int32))), (0, .ref (L 1 0)), (1, .ref (L 80 i1)), (2, .int x2)]) hx hb dX1_places_22 hl (k := 3) rfl rfl (by decide) rfl (fun ls hl => ?_)
        refine lv_goto (tgt := 2) hx hb dX1_places_25 (by decide) ?_
        exact ih2 σ31 x2 (x3 + (1 : Int32)) _ _ ls hW (lv_sub hl [1, 2, 3, 0] rfl) hs
  refine lv_iconst (v := 0) hx hb dX1_places_0 (by decide) ?_
  refine lv_istore_n (lv' := [(3, .int (0 : Int32)), (0, .ref (L 1 0)), (1, .ref (L 80 i1)), (2, .int a2)]) hx hb dX1_places_1 rfl hl (by decide) rfl (fun ls hl => ?_)
  exact hL2 fu_ σ a2 (0 : Int32) _ _ ls hW (lv_sub hl [1, 2, 3, 0] rfl) hs
set_option maxHeartbeats 4000000 in
theorem c_X1_mayBe (g : wg_T) (hgm : gm g = true) (l : Launch) (L : ly_T) (σ : st_T) (a1 : Int32) (a2 : Int32) (a3 : Int32) (hst : l.stackTraces = false) (o_ : Nat ⊕ Int32) (σ_ : st_T) (hs : m_X1_mayBe σ a1 a2 a3 = some (o_, σ_)) : XI g l yX1_mayBe (ws_ yX1_mayBe cX1_mayBe 5 (some .boolean)) 10 180 (xc o_) (xs o_) [.ref (L 1 0), .int a1, .int a2, .int a3] L σ o_ σ_ := by
  refine xbody.met (by decide) (Nat.le_of_ble_eq_true rfl) ?_
  intro p e s m args below meth c ls hx hb hr hml hlocks hts hown hnm hout hW hl
  have hown : s.vm.findClass RX1 = some m.cls := hown
  have hl : lv_has ls 5 [(0, .ref (L 1 0)), (1, .int a1), (2, .int a2), (3, .int a3)] := hl
  unfold m_X1_mayBe at hs
  refine lv_aload_n hx hb dX1_mayBe_0 rfl (lv_at hl 0 rfl) ?_
  refine lv_iload_n hx hb dX1_mayBe_1 rfl (lv_at hl 1 rfl) ?_
  obtain ⟨o3, hc1, hs⟩ := ww_bnd hs
  rcases o3 with k4 | v5
  · have hs := ww_sL hs
    have hs := ww_S hs
    have e1 : o_ = .inl k4 := congrArg Prod.fst hs
    have e2 : σ_ = σ := congrArg Prod.snd hs
    subst e1
    exact wx_prop (vx_runV (As := [.int a1]) (rest := []) ⟨hx, hb, hml, hown, hts⟩ (c_X1_herdAt g hgm l L σ a1 hst _ hc1) (cwV 1 hts (lw_V q1191 q1193 qs27 q111 q1194) rfl rfl rfl hd_X1_herdAt ⟨(Nat.le_of_ble_eq_true rfl), (Nat.le_of_ble_eq_true rfl)⟩) (ww_preV hW (pr_st (hW.rd hgm) (Nat.le_of_ble_eq_true rfl)) (obv_0 rfl) rfl) rfl rfl hl.1 rfl (lv_room (Nat.le_of_ble_eq_true rfl)) dX1_mayBe_2 ⟨Nat.le_of_ble_eq_true rfl, Nat.le_of_ble_eq_true rfl⟩) no_r hW hlocks hout rfl e2 (Nat.le_of_ble_eq_true rfl) (Nat.le_of_ble_eq_true rfl)
  · have hs := ww_sR hs
    refine ww_xr0 (vx_runV (As := [.int a1]) (rest := []) ⟨hx, hb, hml, hown, hts⟩ (c_X1_herdAt g hgm l L σ a1 hst _ hc1) (cwV 1 hts (lw_V q1191 q1193 qs27 q111 q1194) rfl rfl rfl hd_X1_herdAt ⟨(Nat.le_of_ble_eq_true rfl), (Nat.le_of_ble_eq_true rfl)⟩) (ww_preV hW (pr_st (hW.rd hgm) (Nat.le_of_ble_eq_true rfl)) (obv_0 rfl) rfl) rfl rfl hl.1 rfl (lv_room (Nat.le_of_ble_eq_true rfl)) dX1_mayBe_2 ⟨Nat.zero_le _, Nat.zero_le _⟩) hW (fun H locs hW => ?_)
    refine lv_astore (lv' := [(4, .ref (L 80 v5)), (0, .ref (L 1 0)), (1, .int a1), (2, .int a2), (3, .int a3)]) hx hb dX1_mayBe_5 hl (by decide) rfl (fun ls hl => ?_)
    refine lv_iload_n hx hb dX1_mayBe_7 rfl (lv_at hl 4 rfl) ?_
    obtain ⟨o8, hc6, hs⟩ := ww_bnd hs
    rcases o8 with k9 | v10
    · have hs := ww_sL hs
      have hs := ww_S hs
      have e1 : o_ = .inl k9 := congrArg Prod.fst hs
      have e2 : σ_ = σ := congrArg Prod.snd hs
      subst e1
      exact wx_prop (vx_runS (As := [.int a3]) (rest := []) ⟨hx, hb, hml, hown, hts⟩ (c_X1_cell g hgm l L σ a3 hst _ hc6) (va_cwS 1 hts (lw_S q821 q822 q111 q823) rfl rfl rfl hd_X1_cell.2 ⟨(Nat.le_of_ble_eq_true rfl), (Nat.le_of_ble_eq_true rfl)⟩) (ww_preS hW) rfl rfl hl.1 rfl (lv_room (Nat.le_of_ble_eq_true rfl)) dX1_mayBe_8 ⟨Nat.le_of_ble_eq_true rfl, Nat.le_of_ble_eq_true rfl⟩) no_v hW hlocks hout rfl e2 (Nat.le_of_ble_eq_true rfl) (Nat.le_of_ble_eq_true rfl)
    · have hs := ww_sR hs
      refine ww_xv0 (vx_runS (As := [.int a3]) (rest := []) ⟨hx, hb, hml, hown, hts⟩ (c_X1_cell g hgm l L σ a3 hst _ hc6) (va_cwS 1 hts (lw_S q821 q822 q111 q823) rfl rfl rfl hd_X1_cell.2 ⟨(Nat.le_of_ble_eq_true rfl), (Nat.le_of_ble_eq_true rfl)⟩) (ww_preS hW) rfl rfl hl.1 rfl (lv_room (Nat.le_of_ble_eq_true rfl)) dX1_mayBe_8 ⟨Nat.zero_le _, Nat.zero_le _⟩) hW (fun H locs hW => ?_)
      refine lv_iload_n hx hb dX1_mayBe_11 rfl (lv_at hl 3 rfl) ?_
      obtain ⟨o13, hc11, hs⟩ := ww_bnd hs
      rcases o13 with k14 | v15
      · have hs := ww_sL hs
        have hs := ww_S hs
        have e1 : o_ = .inl k14 := congrArg Prod.fst hs
        have e2 : σ_ = σ := congrArg Prod.snd hs
        subst e1
        exact wx_prop (vx_runS (As := [.int a2]) (rest := []) ⟨hx, hb, hml, hown, hts⟩ (c_X1_hour g hgm l L σ a2 hst _ hc11) (va_cwS 1 hts (lw_S q1493 q1494 q111 q1495) rfl rfl rfl hd_X1_hour.2 ⟨(Nat.le_of_ble_eq_true rfl), (Nat.le_of_ble_eq_true rfl)⟩) (ww_preS hW) rfl rfl hl.1 rfl (lv_room (Nat.le_of_ble_eq_true rfl)) dX1_mayBe_12 ⟨Nat.le_of_ble_eq_true rfl, Nat.le_of_ble_eq_true rfl⟩) no_v hW hlocks hout rfl e2 (Nat.le_of_ble_eq_true rfl) (Nat.le_of_ble_eq_true rfl)
      · have hs := ww_sR hs
        refine ww_xv0 (vx_runS (As := [.int a2]) (rest := []) ⟨hx, hb, hml, hown, hts⟩ (c_X1_hour g hgm l L σ a2 hst _ hc11) (va_cwS 1 hts (lw_S q1493 q1494 q111 q1495) rfl rfl rfl hd_X1_hour.2 ⟨(Nat.le_of_ble_eq_true rfl), (Nat.le_of_ble_eq_true rfl)⟩) (ww_preS hW) rfl rfl hl.1 rfl (lv_room (Nat.le_of_ble_eq_true rfl)) dX1_mayBe_12 ⟨Nat.zero_le _, Nat.zero_le _⟩) hW (fun H locs hW => ?_)
        refine lv_aload_n hx hb dX1_mayBe_15 rfl (lv_at hl 1 rfl) ?_
        refine lv_aload hx hb dX1_mayBe_16 (lv_at hl 0 rfl) ?_
        refine lv_iload_n hx hb dX1_mayBe_18 rfl (lv_at hl 3 rfl) ?_
        obtain ⟨σ18, hc16, hs⟩ := ww_bnd hs
        refine ww_cv (va_runV (As := [.ref (L 80 v5), .int a2]) (rest := []) ⟨hx, hb, hml, hown, hts⟩ (c_X1_places g hgm l L σ v5 a2 _ hc16) (cwV 2 hts (lw_V q1496 q1498 qs34 q111 q1499) rfl rfl rfl hd_X1_places ⟨(Nat.le_of_ble_eq_true rfl), (Nat.le_of_ble_eq_true rfl)⟩) (ww_preV hW (pr_st (hW.rd hgm) (Nat.le_of_ble_eq_true rfl)) (obv_0 rfl) rfl) rfl rfl hl.1 rfl (lv_room (Nat.le_of_ble_eq_true rfl)) dX1_mayBe_19 ⟨Nat.le_of_ble_eq_true rfl, Nat.le_of_ble_eq_true rfl⟩) hW (fun H locs hW => ?_)
        refine lv_aload_n hx hb dX1_mayBe_22 rfl (lv_at hl 1 rfl) ?_
        refine gf_X1_140 hx hb hts hown hW (pr_st (hW.rd hgm) (Nat.le_of_ble_eq_true rfl)) (hW.fl hgm (pr_st (hW.rd hgm) (Nat.le_of_ble_eq_true rfl)) 28 (by decide) rfl (by decide)) dX1_mayBe_23 ?_
        refine lv_iload_n hx hb dX1_mayBe_26 rfl (lv_at hl 4 rfl) ?_
        obtain ⟨hc19, hs⟩ := ww_chk hs
        refine ww_zald hx hb hW 38 0 (pr_st (hW.rd hgm) (Nat.le_of_ble_eq_true rfl)) rfl hc19 dX1_mayBe_27 ?_
        obtain ⟨hc20, hs⟩ := ww_chk hs
        have hs := ww_S hs
        exact wx_z hx hb hr hlocks hW hc20 (congrArg Prod.fst hs) (congrArg Prod.snd hs) (Nat.zero_le _) (Nat.zero_le _) dX1_mayBe_28
set_option maxHeartbeats 4000000 in
theorem c_X1_spots (g : wg_T) (hgm : gm g = true) (l : Launch) (L : ly_T) (σ : st_T) (a1 : Int32) (a2 : Int32) (hst : l.stackTraces = false) (o_ : Nat ⊕ Int32) (σ_ : st_T) (hs : m_X1_spots σ a1 a2 = some (o_, σ_)) : XI g l yX1_spots (ws_ yX1_spots cX1_spots 9 (some .int)) 10 180 (xc o_) (xs o_) [.ref (L 1 0), .int a1, .int a2] L σ o_ σ_ := by
  refine xbody.met (by decide) (Nat.le_of_ble_eq_true rfl) ?_
  intro p e s m args below meth c ls hx hb hr hml hlocks hts hown hnm hout hW hl
  have hown : s.vm.findClass RX1 = some m.cls := hown
  have hl : lv_has ls 9 [(0, .ref (L 1 0)), (1, .int a1), (2, .int a2)] := hl
  unfold m_X1_spots at hs
  have hL33 : ∀ (n33 : Nat), ∀ (σ : st_T) (x4 : Int32) (x6 : Int32) (x7 : Int32) (H : Heap) (locs : List Loc) (ls : Array Slot), wv g L σ s H locs → lv_has ls 9 [(4, .int x4), (5, .ref (L 38 0)), (6, .int x6), (7, .int x7)] → (m_X1_spots_L33 n33) σ x4 x6 x7 = some (o_, σ_) → W p l e (wrm 10 180 (xc o_) (xs o_)) s m args below meth c H locs 0 0 (vx_MQ below (wXi g L o_ σ_) (wX g o_ σ_ L) args s (xc o_) (xs o_) (fun q => gz g ≤ q)) (F0 m 33 ls []) := by
    intro n33
    induction n33 with
    | zero => intro σ x4 x6 x7 H locs ls hW hl hs; rw [m_X1_spots_L33] at hs; cases hs
    | succ n33 ih33 =>
      have hL59 : ∀ (σ : st_T) (x6 : Int32) (x7 : Int32) (t0 : Int32) (t1 : Int32) (H : Heap) (locs : List Loc) (ls : Array Slot), wv g L σ s H locs → lv_has ls 9 [(5, .ref (L 38 0)), (6, .int x6), (7, .int x7)] → (m_X1_spots_L59 (m_X1_spots_L33 n33)) σ x6 x7 t0 t1 = some (o_, σ_) → W p l e (wrm 10 180 (xc o_) (xs o_)) s m args below meth c H locs 0 0 (vx_MQ below (wXi g L o_ σ_) (wX g o_ σ_ L) args s (xc o_) (xs o_) (fun q => gz g ≤ q)) (F0 m 59 ls [.int t1, .int t0]) := by
        intro σ x6 x7 t0 t1 H locs ls hW hl hs
        unfold m_X1_spots_L59 at hs
        refine lv_iadd hx hb dX1_spots_59 ?_
        refine lv_istore (lv' := [(4, .int (t0 + t1)), (5, .ref (L 38 0)), (6, .int x6), (7, .int x7)]) hx hb dX1_spots_60 hl (by decide) rfl (fun ls hl => ?_)
        refine lv_iinc (v := (x7 + (1 : Int32))) (lv' := [(7, .int (x7 + (1 : Int32))), (4, .int (t0 + t1)), (5, .ref (L 38 0)), (6, .int x6)]) hx hb dX1_spots_62 hl (k := 3) rfl rfl (by decide) rfl (fun ls hl => ?_)
        refine lv_goto (tgt := 33) hx hb dX1_spots_65 (by decide) ?_
        exact ih33 σ (t0 + t1) x6 (x7 + (1 : Int32)) _ _ ls hW (lv_sub hl [1, 2, 3, 0] rfl) hs
      intro σ x4 x6 x7 H locs ls hW hl hs
      rw [m_X1_spots_L33] at hs
      refine lv_iload hx hb dX1_spots_33 (lv_at hl 3 rfl) ?_
      refine lv_iload hx hb dX1_spots_35 (lv_at hl 2 rfl) ?_
      refine lv_icmp_ge (tgt := 68) hx hb dX1_spots_37 (by decide) (fun hc1 => ?_) (fun hc1 => ?_)
      · have hs := ww_T hs hc1
        refine lv_iload hx hb dX1_spots_68 (lv_at hl 0 rfl) ?_
        have hs := ww_S hs
        exact wx_i hx hb hr hlocks hW (congrArg Prod.fst hs) (congrArg Prod.snd hs) (Nat.zero_le _) (Nat.zero_le _) dX1_spots_70
      · have hs := ww_F hs hc1
        refine lv_aload hx hb dX1_spots_40 (lv_at hl 1 rfl) ?_
        refine lv_iload hx hb dX1_spots_42 (lv_at hl 3 rfl) ?_
        obtain ⟨hc2, hs⟩ := ww_chk hs
        refine ww_zald hx hb hW 38 0 (pr_st (hW.rd hgm) (Nat.le_of_ble_eq_true rfl)) rfl hc2 dX1_spots_44 ?_
        refine lv_istore (lv' := [(8, .int (gA_ σ 38 0 x7.toNatClampNeg)), (4, .int x4), (5, .ref (L 38 0)), (6, .int x6), (7, .int x7)]) hx hb dX1_spots_45 hl (by decide) rfl (fun ls hl => ?_)
        refine lv_iload hx hb dX1_spots_47 (lv_at hl 1 rfl) ?_
        refine lv_iload hx hb dX1_spots_49 (lv_at hl 0 rfl) ?_
        refine lv_if_eq (tgt := 58) hx hb dX1_spots_51 (by decide) (fun hc3 => ?_) (fun hc3 => ?_)
        · have hs := ww_T hs hc3
          refine lv_iconst (v := 0) hx hb dX1_spots_58 (by decide) ?_
          exact hL59 σ x6 x7 x4 (0 : Int32) _ _ ls hW (lv_sub hl [2, 3, 4] rfl) hs
        · have hs := ww_F hs hc3
          refine lv_iconst (v := 1) hx hb dX1_spots_54 (by decide) ?_
          refine lv_goto (tgt := 59) hx hb dX1_spots_55 (by decide) ?_
          exact hL59 σ x6 x7 x4 (1 : Int32) _ _ ls hW (lv_sub hl [2, 3, 4] rfl) hs
  refine lv_aload_n hx hb dX1_spots_0 rfl (lv_at hl 0 rfl) ?_
  refine lv_iload_n hx hb dX1_spots_1 rfl (lv_at hl 1 rfl) ?_
  obtain ⟨o6, hc4, hs⟩ := ww_bnd hs
  rcases o6 with k7 | v8
  · have hs := ww_sL hs
    have hs := ww_S hs
    have e1 : o_ = .inl k7 := congrArg Prod.fst hs
    have e2 : σ_ = σ := congrArg Prod.snd hs
    subst e1
    exact wx_prop (vx_runV (As := [.int a1]) (rest := []) ⟨hx, hb, hml, hown, hts⟩ (c_X1_herdAt g hgm l L σ a1 hst _ hc4) (cwV 1 hts (lw_V q1191 q1193 qs27 q111 q1194) rfl rfl rfl hd_X1_herdAt ⟨(Nat.le_of_ble_eq_true rfl), (Nat.le_of_ble_eq_true rfl)⟩) (ww_preV hW (pr_st (hW.rd hgm) (Nat.le_of_ble_eq_true rfl)) (obv_0 rfl) rfl) rfl rfl hl.1 rfl (lv_room (Nat.le_of_ble_eq_true rfl)) dX1_spots_2 ⟨Nat.le_of_ble_eq_true rfl, Nat.le_of_ble_eq_true rfl⟩) no_r hW hlocks hout rfl e2 (Nat.le_of_ble_eq_true rfl) (Nat.le_of_ble_eq_true rfl)
  · have hs := ww_sR hs
    refine ww_xr0 (vx_runV (As := [.int a1]) (rest := []) ⟨hx, hb, hml, hown, hts⟩ (c_X1_herdAt g hgm l L σ a1 hst _ hc4) (cwV 1 hts (lw_V q1191 q1193 qs27 q111 q1194) rfl rfl rfl hd_X1_herdAt ⟨(Nat.le_of_ble_eq_true rfl), (Nat.le_of_ble_eq_true rfl)⟩) (ww_preV hW (pr_st (hW.rd hgm) (Nat.le_of_ble_eq_true rfl)) (obv_0 rfl) rfl) rfl rfl hl.1 rfl (lv_room (Nat.le_of_ble_eq_true rfl)) dX1_spots_2 ⟨Nat.zero_le _, Nat.zero_le _⟩) hW (fun H locs hW => ?_)
    refine lv_astore_n (lv' := [(3, .ref (L 80 v8)), (0, .ref (L 1 0)), (1, .int a1), (2, .int a2)]) hx hb dX1_spots_5 rfl hl (by decide) rfl (fun ls hl => ?_)
    refine lv_iload_n hx hb dX1_spots_6 rfl (lv_at hl 3 rfl) ?_
    obtain ⟨o11, hc9, hs⟩ := ww_bnd hs
    rcases o11 with k12 | v13
    · have hs := ww_sL hs
      have hs := ww_S hs
      have e1 : o_ = .inl k12 := congrArg Prod.fst hs
      have e2 : σ_ = σ := congrArg Prod.snd hs
      subst e1
      exact wx_prop (vx_runS (As := [.int a2]) (rest := []) ⟨hx, hb, hml, hown, hts⟩ (c_X1_hour g hgm l L σ a2 hst _ hc9) (va_cwS 1 hts (lw_S q1493 q1494 q111 q1495) rfl rfl rfl hd_X1_hour.2 ⟨(Nat.le_of_ble_eq_true rfl), (Nat.le_of_ble_eq_true rfl)⟩) (ww_preS hW) rfl rfl hl.1 rfl (lv_room (Nat.le_of_ble_eq_true rfl)) dX1_spots_7 ⟨Nat.le_of_ble_eq_true rfl, Nat.le_of_ble_eq_true rfl⟩) no_v hW hlocks hout rfl e2 (Nat.le_of_ble_eq_true rfl) (Nat.le_of_ble_eq_true rfl)
    · have hs := ww_sR hs
      refine ww_xv0 (vx_runS (As := [.int a2]) (rest := []) ⟨hx, hb, hml, hown, hts⟩ (c_X1_hour g hgm l L σ a2 hst _ hc9) (va_cwS 1 hts (lw_S q1493 q1494 q111 q1495) rfl rfl rfl hd_X1_hour.2 ⟨(Nat.le_of_ble_eq_true rfl), (Nat.le_of_ble_eq_true rfl)⟩) (ww_preS hW) rfl rfl hl.1 rfl (lv_room (Nat.le_of_ble_eq_true rfl)) dX1_spots_7 ⟨Nat.zero_le _, Nat.zero_le _⟩) hW (fun H locs hW => ?_)
      refine lv_aload_n hx hb dX1_spots_10 rfl (lv_at hl 1 rfl) ?_
      refine lv_aload_n hx hb dX1_spots_11 rfl (lv_at hl 0 rfl) ?_
      refine lv_iload_n hx hb dX1_spots_12 rfl (lv_at hl 3 rfl) ?_
      obtain ⟨σ16, hc14, hs⟩ := ww_bnd hs
      refine ww_cv (va_runV (As := [.ref (L 80 v8), .int a2]) (rest := []) ⟨hx, hb, hml, hown, hts⟩ (c_X1_places g hgm l L σ v8 a2 _ hc14) (cwV 2 hts (lw_V q1496 q1498 qs34 q111 q1499) rfl rfl rfl hd_X1_places ⟨(Nat.le_of_ble_eq_true rfl), (Nat.le_of_ble_eq_true rfl)⟩) (ww_preV hW (pr_st (hW.rd hgm) (Nat.le_of_ble_eq_true rfl)) (obv_0 rfl) rfl) rfl rfl hl.1 rfl (lv_room (Nat.le_of_ble_eq_true rfl)) dX1_spots_13 ⟨Nat.le_of_ble_eq_true rfl, Nat.le_of_ble_eq_true rfl⟩) hW (fun H locs hW => ?_)
      refine lv_iconst (v := 0) hx hb dX1_spots_16 (by decide) ?_
      refine lv_istore (lv' := [(4, .int (0 : Int32)), (3, .ref (L 80 v8)), (0, .ref (L 1 0)), (1, .int a1), (2, .int a2)]) hx hb dX1_spots_17 hl (by decide) rfl (fun ls hl => ?_)
      refine lv_aload_n hx hb dX1_spots_19 rfl (lv_at hl 2 rfl) ?_
      refine gf_X1_140 hx hb hts hown hW (pr_st (hW.rd hgm) (Nat.le_of_ble_eq_true rfl)) (hW.fl hgm (pr_st (hW.rd hgm) (Nat.le_of_ble_eq_true rfl)) 28 (by decide) rfl (by decide)) dX1_spots_20 ?_
      refine lv_astore (lv' := [(5, .ref (L 38 0)), (4, .int (0 : Int32)), (3, .ref (L 80 v8)), (0, .ref (L 1 0)), (1, .int a1), (2, .int a2)]) hx hb dX1_spots_23 hl (by decide) rfl (fun ls hl => ?_)
      refine lv_aload hx hb dX1_spots_25 (lv_at hl 0 rfl) ?_
      refine ww_alen (v := 64) hx hb hW 38 0 (pr_st (hW.rd hgm) (Nat.le_of_ble_eq_true rfl)) rfl rfl rfl dX1_spots_27 ?_
      refine lv_istore (lv' := [(6, .int (64 : Int32)), (5, .ref (L 38 0)), (4, .int (0 : Int32)), (3, .ref (L 80 v8)), (0, .ref (L 1 0)), (1, .int a1), (2, .int a2)]) hx hb dX1_spots_28 hl (by decide) rfl (fun ls hl => ?_)
      refine lv_iconst (v := 0) hx hb dX1_spots_30 (by decide) ?_
      refine lv_istore (lv' := [(7, .int (0 : Int32)), (6, .int (64 : Int32)), (5, .ref (L 38 0)), (4, .int (0 : Int32)), (3, .ref (L 80 v8)), (0, .ref (L 1 0)), (1, .int a1), (2, .int a2)]) hx hb dX1_spots_31 hl (by decide) rfl (fun ls hl => ?_)
      exact hL33 fu_ σ16 (0 : Int32) (64 : Int32) (0 : Int32) _ _ ls hW (lv_sub hl [3, 2, 1, 0] rfl) hs
set_option maxHeartbeats 4000000 in
theorem c_X1_causeOf (g : wg_T) (hgm : gm g = true) (l : Launch) (L : ly_T) (σ : st_T) (i1 : Nat) (r_ : Int32) (σ_ : st_T) (hs : m_X1_causeOf σ i1 = some (r_, σ_)) : CI g l yX1_causeOf (ws_ yX1_causeOf cX1_causeOf 5 (some .int)) 6 157 0 0 [.ref (L 1 0), .ref (L 86 i1)] L σ r_ σ_ := by
  refine wbody.met (by decide) (Nat.le_of_ble_eq_true rfl) ?_
  intro p e s m args below meth c ls hx hb hr hml hlocks hts hown hnm hW hl
  have hown : s.vm.findClass RX1 = some m.cls := hown
  have hl : lv_has ls 5 [(0, .ref (L 1 0)), (1, .ref (L 86 i1))] := hl
  unfold m_X1_causeOf at hs
  have hL4 : ∀ (n4 : Nat), ∀ (σ : st_T) (x2 : Int32) (x3 : Int32) (H : Heap) (locs : List Loc) (ls : Array Slot), wv g L σ s H locs → lv_has ls 5 [(0, .ref (L 1 0)), (1, .ref (L 86 i1)), (2, .int x2), (3, .int x3)] → (m_X1_causeOf_L4 i1 n4) σ x2 x3 = some (r_, σ_) → W p l e (wrm 6 157 0 0) s m args below meth c H locs 0 0 (MQ below (wQi g L r_ σ_) args s 0 0 (fun q => gz g ≤ q)) (F0 m 4 ls []) := by
    intro n4
    induction n4 with
    | zero => intro σ x2 x3 H locs ls hW hl hs; rw [m_X1_causeOf_L4] at hs; cases hs
    | succ n4 ih4 =>
      have hL105 : ∀ (σ : st_T) (x2 : Int32) (t0 : Int32) (H : Heap) (locs : List Loc) (ls : Array Slot), wv g L σ s H locs → lv_has ls 5 [(1, .ref (L 86 i1)), (2, .int x2)] → (m_X1_causeOf_L105 i1) σ x2 t0 = some (r_, σ_) → W p l e (wrm 6 157 0 0) s m args below meth c H locs 0 0 (MQ below (wQi g L r_ σ_) args s 0 0 (fun q => gz g ≤ q)) (F0 m 105 ls [.int t0]) := by
        have hL120 : ∀ (σ : st_T) (x2 : Int32) (t0 : Int32) (H : Heap) (locs : List Loc) (ls : Array Slot), wv g L σ s H locs → lv_has ls 5 [(2, .int x2)] → (m_X1_causeOf_L120 i1) σ x2 t0 = some (r_, σ_) → W p l e (wrm 6 157 0 0) s m args below meth c H locs 0 0 (MQ below (wQi g L r_ σ_) args s 0 0 (fun q => gz g ≤ q)) (F0 m 120 ls [.int t0]) := by
          have hL131 : ∀ (σ : st_T) (x4 : Int32) (t0 : Int32) (H : Heap) (locs : List Loc) (ls : Array Slot), wv g L σ s H locs → lv_has ls 5 [(4, .int x4)] → (m_X1_causeOf_L131 i1) σ x4 t0 = some (r_, σ_) → W p l e (wrm 6 157 0 0) s m args below meth c H locs 0 0 (MQ below (wQi g L r_ σ_) args s 0 0 (fun q => gz g ≤ q)) (F0 m 131 ls [.int t0]) := by
            have hL141 : ∀ (σ : st_T) (t0 : Int32) (t1 : Int32) (H : Heap) (locs : List Loc) (ls : Array Slot), wv g L σ s H locs → lv_has ls 5 [] → (m_X1_causeOf_L141 i1) σ t0 t1 = some (r_, σ_) → W p l e (wrm 6 157 0 0) s m args below meth c H locs 0 0 (MQ below (wQi g L r_ σ_) args s 0 0 (fun q => gz g ≤ q)) (F0 m 141 ls [.int t1, .int t0]) := by
              intro σ t0 t1 H locs ls hW hl hs
              unfold m_X1_causeOf_L141 at hs
              refine lv_iadd hx hb dX1_causeOf_141 ?_
              have hs := ww_S hs
              exact we_i hx hb hr hlocks hW (congrArg Prod.fst hs) (congrArg Prod.snd hs) (Nat.le_of_ble_eq_true rfl) (Nat.le_of_ble_eq_true rfl) dX1_causeOf_142
            intro σ x4 t0 H locs ls hW hl hs
            unfold m_X1_causeOf_L131 at hs
            refine lv_iload hx hb dX1_causeOf_131 (lv_at hl 0 rfl) ?_
            refine lv_if_eq (tgt := 140) hx hb dX1_causeOf_133 (by decide) (fun hc1 => ?_) (fun hc1 => ?_)
            · have hs := ww_T hs hc1
              refine lv_iconst (v := 0) hx hb dX1_causeOf_140 (by decide) ?_
              exact hL141 σ t0 (0 : Int32) _ _ ls hW (lv_sub hl [] rfl) hs
            · have hs := ww_F hs hc1
              refine lv_iconst (v := 2) hx hb dX1_causeOf_136 (by decide) ?_
              refine lv_goto (tgt := 141) hx hb dX1_causeOf_137 (by decide) ?_
              exact hL141 σ t0 (2 : Int32) _ _ ls hW (lv_sub hl [] rfl) hs
          intro σ x2 t0 H locs ls hW hl hs
          unfold m_X1_causeOf_L120 at hs
          refine lv_istore (lv' := [(4, .int t0), (2, .int x2)]) hx hb dX1_causeOf_120 hl (by decide) rfl (fun ls hl => ?_)
          refine lv_iload_n hx hb dX1_causeOf_122 rfl (lv_at hl 1 rfl) ?_
          refine lv_if_eq (tgt := 130) hx hb dX1_causeOf_123 (by decide) (fun hc2 => ?_) (fun hc2 => ?_)
          · have hs := ww_T hs hc2
            refine lv_iconst (v := 0) hx hb dX1_causeOf_130 (by decide) ?_
            exact hL131 σ t0 (0 : Int32) _ _ ls hW (lv_sub hl [0] rfl) hs
          · have hs := ww_F hs hc2
            refine lv_iconst (v := 1) hx hb dX1_causeOf_126 (by decide) ?_
            refine lv_goto (tgt := 131) hx hb dX1_causeOf_127 (by decide) ?_
            exact hL131 σ t0 (1 : Int32) _ _ ls hW (lv_sub hl [0] rfl) hs
        intro σ x2 t0 H locs ls hW hl hs
        unfold m_X1_causeOf_L105 at hs
        refine lv_aload_n hx hb dX1_causeOf_105 rfl (lv_at hl 0 rfl) ?_
        obtain ⟨hc3, hs⟩ := ww_chk hs
        refine gf_X1_479 hx hb hts hown hW (pr_dy hc3 rfl rfl) (hW.fl hgm (pr_dy hc3 rfl rfl) 0 (by decide) rfl (by decide)) dX1_causeOf_106 ?_
        obtain ⟨hc4, hs⟩ := ww_chk hs
        refine gf_X1_488 hx hb hts hown hW (pr_dy hc4 rfl rfl) dX1_causeOf_109 ?_
        refine lv_icmp_lt (tgt := 119) hx hb dX1_causeOf_112 (by decide) (fun hc5 => ?_) (fun hc5 => ?_)
        · have hs := ww_T hs hc5
          refine lv_iconst (v := 0) hx hb dX1_causeOf_119 (by decide) ?_
          exact hL120 σ x2 (0 : Int32) _ _ ls hW (lv_sub hl [1] rfl) hs
        · have hs := ww_F hs hc5
          refine lv_iconst (v := 1) hx hb dX1_causeOf_115 (by decide) ?_
          refine lv_goto (tgt := 120) hx hb dX1_causeOf_116 (by decide) ?_
          exact hL120 σ x2 (1 : Int32) _ _ ls hW (lv_sub hl [1] rfl) hs
      have hL70 : ∀ (σ : st_T) (x3 : Int32) (t0 : Int32) (t1 : Int32) (H : Heap) (locs : List Loc) (ls : Array Slot), wv g L σ s H locs → lv_has ls 5 [(0, .ref (L 1 0)), (1, .ref (L 86 i1)), (3, .int x3)] → (m_X1_causeOf_L70 i1 (m_X1_causeOf_L4 i1 n4)) σ x3 t0 t1 = some (r_, σ_) → W p l e (wrm 6 157 0 0) s m args below meth c H locs 0 0 (MQ below (wQi g L r_ σ_) args s 0 0 (fun q => gz g ≤ q)) (F0 m 70 ls [.int t1, .int t0]) := by
        intro σ x3 t0 t1 H locs ls hW hl hs
        unfold m_X1_causeOf_L70 at hs
        refine lv_ior hx hb dX1_causeOf_70 ?_
        refine lv_istore_n (lv' := [(2, .int (t0 ||| t1)), (0, .ref (L 1 0)), (1, .ref (L 86 i1)), (3, .int x3)]) hx hb dX1_causeOf_71 rfl hl (by decide) rfl (fun ls hl => ?_)
        refine lv_iinc (v := (x3 + (1 : Int32))) (lv' := [(3, .int (x3 + (1 : Int32))), (2, .int (t0 ||| t1)), (0, .ref (L 1 0)), (1, .ref (L 86 i1))]) hx hb dX1_causeOf_72 hl (k := 3) rfl rfl (by decide) rfl (fun ls hl => ?_)
        refine lv_goto (tgt := 4) hx hb dX1_causeOf_75 (by decide) ?_
        exact ih4 σ (t0 ||| t1) (x3 + (1 : Int32)) _ _ ls hW (lv_sub hl [2, 3, 1, 0] rfl) hs
      have hL65 : ∀ (σ : st_T) (x3 : Int32) (t0 : Int32) (H : Heap) (locs : List Loc) (ls : Array Slot), wv g L σ s H locs → lv_has ls 5 [(0, .ref (L 1 0)), (1, .ref (L 86 i1)), (3, .int x3)] → (m_X1_causeOf_L65 i1 (m_X1_causeOf_L70 i1 (m_X1_causeOf_L4 i1 n4))) σ x3 t0 = some (r_, σ_) → W p l e (wrm 6 157 0 0) s m args below meth c H locs 0 0 (MQ below (wQi g L r_ σ_) args s 0 0 (fun q => gz g ≤ q)) (F0 m 65 ls [.int t0]) := by
        intro σ x3 t0 H locs ls hW hl hs
        unfold m_X1_causeOf_L65 at hs
        refine lv_iconst (v := 1) hx hb dX1_causeOf_65 (by decide) ?_
        refine lv_goto (tgt := 70) hx hb dX1_causeOf_66 (by decide) ?_
        exact hL70 σ x3 t0 (1 : Int32) _ _ ls hW (lv_sub hl [0, 1, 2] rfl) hs
      intro σ x2 x3 H locs ls hW hl hs
      rw [m_X1_causeOf_L4] at hs
      refine lv_iload_n hx hb dX1_causeOf_4 rfl (lv_at hl 3 rfl) ?_
      refine lv_aload_n hx hb dX1_causeOf_5 rfl (lv_at hl 0 rfl) ?_
      refine gf_X1_71 hx hb hts hown hW (pr_st (hW.rd hgm) (Nat.le_of_ble_eq_true rfl)) (hW.fl hgm (pr_st (hW.rd hgm) (Nat.le_of_ble_eq_true rfl)) 6 (by decide) rfl (by decide)) dX1_causeOf_6 ?_
      refine ww_ci (va_runV (As := []) (rest := [.int x3]) ⟨hx, hb, hml, hown, hts⟩ (c_AL_size g hgm l L σ 70 0 71 rfl rfl (pr_st (hW.rd hgm) (Nat.le_of_ble_eq_true rfl))) (cwV 0 hts (lw_V q514 q515 q516 q117 q517) rfl rfl rfl hd_J2_size ⟨(Nat.le_of_ble_eq_true rfl), (Nat.le_of_ble_eq_true rfl)⟩) (ww_preV hW (pr_st (hW.rd hgm) (Nat.le_of_ble_eq_true rfl)) (obv_0 rfl) rfl) rfl rfl hl.1 rfl (lv_room (Nat.le_of_ble_eq_true rfl)) dX1_causeOf_9 ⟨Nat.zero_le _, Nat.zero_le _⟩) hW (fun H locs hW => ?_)
      refine lv_icmp_ge (tgt := 78) hx hb dX1_causeOf_12 (by decide) (fun hc6 => ?_) (fun hc6 => ?_)
      · have hs := ww_T hs hc6
        refine lv_aload_n hx hb dX1_causeOf_78 rfl (lv_at hl 0 rfl) ?_
        refine lv_aload_n hx hb dX1_causeOf_79 rfl (lv_at hl 1 rfl) ?_
        obtain ⟨hc7, hs⟩ := ww_chk hs
        refine gf_X1_477 hx hb hts hown hW (pr_dy hc7 rfl rfl) dX1_causeOf_80 ?_
        obtain ⟨v10, hc8, hs⟩ := ww_bnd hs
        refine ww_ci (va_runV (As := [.int (gF_ σ 86 1 i1)]) (rest := []) ⟨hx, hb, hml, hown, hts⟩ (c_X1_windOf g hgm l L σ (gF_ σ 86 1 i1) _ hc8) (cwV 1 hts (lw_V q1561 q1563 qs37 q111 q1564) rfl rfl rfl hd_X1_windOf ⟨(Nat.le_of_ble_eq_true rfl), (Nat.le_of_ble_eq_true rfl)⟩) (ww_preV hW (pr_st (hW.rd hgm) (Nat.le_of_ble_eq_true rfl)) (obv_0 rfl) rfl) rfl rfl hl.1 rfl (lv_room (Nat.le_of_ble_eq_true rfl)) dX1_causeOf_83 ⟨Nat.le_of_ble_eq_true rfl, Nat.le_of_ble_eq_true rfl⟩) hW (fun H locs hW => ?_)
        refine lv_istore_n (lv' := [(3, .int v10), (0, .ref (L 1 0)), (1, .ref (L 86 i1)), (2, .int x2)]) hx hb dX1_causeOf_86 rfl hl (by decide) rfl (fun ls hl => ?_)
        refine lv_iload_n hx hb dX1_causeOf_87 rfl (lv_at hl 0 rfl) ?_
        refine lv_aload_n hx hb dX1_causeOf_88 rfl (lv_at hl 1 rfl) ?_
        refine gf_X1_462 hx hb hts hown hW (pr_st (hW.rd hgm) (Nat.le_of_ble_eq_true rfl)) dX1_causeOf_89 ?_
        refine lv_icmp_ge (tgt := 104) hx hb dX1_causeOf_92 (by decide) (fun hc11 => ?_) (fun hc11 => ?_)
        · have hs := ww_T hs hc11
          refine lv_iconst (v := 0) hx hb dX1_causeOf_104 (by decide) ?_
          exact hL105 σ x2 (0 : Int32) _ _ ls hW (lv_sub hl [2, 3] rfl) hs
        · have hs := ww_F hs hc11
          refine lv_aload_n hx hb dX1_causeOf_95 rfl (lv_at hl 1 rfl) ?_
          refine gf_X1_109 hx hb hts hown hW (pr_st (hW.rd hgm) (Nat.le_of_ble_eq_true rfl)) (hW.fl hgm (pr_st (hW.rd hgm) (Nat.le_of_ble_eq_true rfl)) 18 (by decide) rfl (by decide)) dX1_causeOf_96 ?_
          refine lv_iload_n hx hb dX1_causeOf_99 rfl (lv_at hl 0 rfl) ?_
          obtain ⟨hc12, hs⟩ := ww_chk hs
          refine ww_iald hx hb hW 28 0 (pr_st (hW.rd hgm) (Nat.le_of_ble_eq_true rfl)) rfl hc12 dX1_causeOf_100 ?_
          refine lv_goto (tgt := 105) hx hb dX1_causeOf_101 (by decide) ?_
          exact hL105 σ x2 (gA_ σ 28 0 v10.toNatClampNeg) _ _ ls hW (lv_sub hl [2, 3] rfl) hs
      · have hs := ww_F hs hc6
        refine lv_aload_n hx hb dX1_causeOf_15 rfl (lv_at hl 0 rfl) ?_
        refine lv_aload_n hx hb dX1_causeOf_16 rfl (lv_at hl 0 rfl) ?_
        refine gf_X1_71 hx hb hts hown hW (pr_st (hW.rd hgm) (Nat.le_of_ble_eq_true rfl)) (hW.fl hgm (pr_st (hW.rd hgm) (Nat.le_of_ble_eq_true rfl)) 6 (by decide) rfl (by decide)) dX1_causeOf_17 ?_
        refine lv_iload_n hx hb dX1_causeOf_20 rfl (lv_at hl 3 rfl) ?_
        obtain ⟨hc13, hs⟩ := ww_chk hs
        refine ww_cr (va_runV (As := [.int x3]) (rest := [.ref (L 1 0)]) ⟨hx, hb, hml, hown, hts⟩ (c_AL_get g hgm l L σ 70 0 71 80 x3 rfl rfl rfl (pr_st (hW.rd hgm) (Nat.le_of_ble_eq_true rfl)) hc13) (cwV 1 hts (lw_V q518 q519 q520 q117 q521) rfl rfl rfl hd_J2_get ⟨(Nat.le_of_ble_eq_true rfl), (Nat.le_of_ble_eq_true rfl)⟩) (ww_preV hW (pr_st (hW.rd hgm) (Nat.le_of_ble_eq_true rfl)) (obv_0 rfl) rfl) rfl rfl hl.1 rfl (lv_room (Nat.le_of_ble_eq_true rfl)) dX1_causeOf_21 ⟨Nat.zero_le _, Nat.zero_le _⟩) hW (fun H locs hW => ?_)
        obtain ⟨hc14, hs⟩ := ww_chk hs
        refine ww_castS hx hb hown (hts _ q532) hW (pr_dy hc14 rfl rfl) (obv_0 rfl) rfl dX1_causeOf_24 ?_
        refine lv_aload_n hx hb dX1_causeOf_27 rfl (lv_at hl 1 rfl) ?_
        obtain ⟨hc15, hs⟩ := ww_chk hs
        refine gf_X1_477 hx hb hts hown hW (pr_dy hc15 rfl rfl) dX1_causeOf_28 ?_
        obtain ⟨σ18, hc16, hs⟩ := ww_bnd hs
        refine ww_cv (va_runV (As := [.ref (L 80 (gP_ σ 71 (2 + x3.toNatClampNeg) 0)), .int (gF_ σ 86 1 i1)]) (rest := []) ⟨hx, hb, hml, hown, hts⟩ (c_X1_places g hgm l L σ (gP_ σ 71 (2 + x3.toNatClampNeg) 0) (gF_ σ 86 1 i1) _ hc16) (cwV 2 hts (lw_V q1496 q1498 qs34 q111 q1499) rfl rfl rfl hd_X1_places ⟨(Nat.le_of_ble_eq_true rfl), (Nat.le_of_ble_eq_true rfl)⟩) (ww_preV hW (pr_st (hW.rd hgm) (Nat.le_of_ble_eq_true rfl)) (obv_0 rfl) rfl) rfl rfl hl.1 rfl (lv_room (Nat.le_of_ble_eq_true rfl)) dX1_causeOf_31 ⟨Nat.le_of_ble_eq_true rfl, Nat.le_of_ble_eq_true rfl⟩) hW (fun H locs hW => ?_)
        refine lv_iload_n hx hb dX1_causeOf_34 rfl (lv_at hl 2 rfl) ?_
        refine lv_aload_n hx hb dX1_causeOf_35 rfl (lv_at hl 0 rfl) ?_
        refine gf_X1_140 hx hb hts hown hW (pr_st (hW.rd hgm) (Nat.le_of_ble_eq_true rfl)) (hW.fl hgm (pr_st (hW.rd hgm) (Nat.le_of_ble_eq_true rfl)) 28 (by decide) rfl (by decide)) dX1_causeOf_36 ?_
        refine lv_aload_n hx hb dX1_causeOf_39 rfl (lv_at hl 1 rfl) ?_
        obtain ⟨hc19, hs⟩ := ww_chk hs
        refine gf_X1_479 hx hb hts hown hW (pr_dy hc19 rfl rfl) (hW.fl hgm (pr_dy hc19 rfl rfl) 0 (by decide) rfl (by decide)) dX1_causeOf_40 ?_
        obtain ⟨hc20, hs⟩ := ww_chk hs
        refine gf_X1_483 hx hb hts hown hW (pr_dy hc20 rfl rfl) dX1_causeOf_43 ?_
        obtain ⟨hc21, hs⟩ := ww_chk hs
        refine ww_zald hx hb hW 38 0 (pr_st (hW.rd hgm) (Nat.le_of_ble_eq_true rfl)) rfl hc21 dX1_causeOf_46 ?_
        refine lv_if_ne (tgt := 65) hx hb dX1_causeOf_47 (by decide) (fun hc22 => ?_) (fun hc22 => ?_)
        · have hs := ww_F hs hc22
          exact hL65 σ18 x3 x2 _ _ ls hW (lv_sub hl [0, 1, 3] rfl) hs
        · have hs := ww_T hs hc22
          refine lv_aload_n hx hb dX1_causeOf_50 rfl (lv_at hl 0 rfl) ?_
          refine gf_X1_140 hx hb hts hown hW (pr_st (hW.rd hgm) (Nat.le_of_ble_eq_true rfl)) (hW.fl hgm (pr_st (hW.rd hgm) (Nat.le_of_ble_eq_true rfl)) 28 (by decide) rfl (by decide)) dX1_causeOf_51 ?_
          refine lv_aload_n hx hb dX1_causeOf_54 rfl (lv_at hl 1 rfl) ?_
          refine gf_X1_479 hx hb hts hown hW (pr_dy hc19 rfl rfl) (hW.fl hgm (pr_dy hc19 rfl rfl) 0 (by decide) rfl (by decide)) dX1_causeOf_55 ?_
          refine gf_X1_486 hx hb hts hown hW (pr_dy hc20 rfl rfl) dX1_causeOf_58 ?_
          obtain ⟨hc23, hs⟩ := ww_chk hs
          refine ww_zald hx hb hW 38 0 (pr_st (hW.rd hgm) (Nat.le_of_ble_eq_true rfl)) rfl hc23 dX1_causeOf_61 ?_
          refine lv_if_eq (tgt := 69) hx hb dX1_causeOf_62 (by decide) (fun hc24 => ?_) (fun hc24 => ?_)
          · have hs := ww_T hs hc24
            refine lv_iconst (v := 0) hx hb dX1_causeOf_69 (by decide) ?_
            exact hL70 σ18 x3 x2 (0 : Int32) _ _ ls hW (lv_sub hl [0, 1, 3] rfl) hs
          · have hs := ww_F hs hc24
            exact hL65 σ18 x3 x2 _ _ ls hW (lv_sub hl [0, 1, 3] rfl) hs
  refine lv_iconst (v := 0) hx hb dX1_causeOf_0 (by decide) ?_
  refine lv_istore_n (lv' := [(2, .int (0 : Int32)), (0, .ref (L 1 0)), (1, .ref (L 86 i1))]) hx hb dX1_causeOf_1 rfl hl (by decide) rfl (fun ls hl => ?_)
  refine lv_iconst (v := 0) hx hb dX1_causeOf_2 (by decide) ?_
  refine lv_istore_n (lv' := [(3, .int (0 : Int32)), (2, .int (0 : Int32)), (0, .ref (L 1 0)), (1, .ref (L 86 i1))]) hx hb dX1_causeOf_3 rfl hl (by decide) rfl (fun ls hl => ?_)
  exact hL4 fu_ σ (0 : Int32) (0 : Int32) _ _ ls hW (lv_sub hl [2, 3, 1, 0] rfl) hs
set_option maxHeartbeats 4000000 in
theorem c_X1_causes (g : wg_T) (hgm : gm g = true) (l : Launch) (L : ly_T) (σ : st_T) (a1 : Int32) (a2 : Int32) (hst : l.stackTraces = false) (o_ : Nat ⊕ Int32) (σ_ : st_T) (hs : m_X1_causes σ a1 a2 = some (o_, σ_)) : XI g l yX1_causes (ws_ yX1_causes cX1_causes 6 (some .int)) 9 181 (xc o_) (xs o_) [.ref (L 1 0), .int a1, .int a2] L σ o_ σ_ := by
  refine xbody.met (by decide) (Nat.le_of_ble_eq_true rfl) ?_
  intro p e s m args below meth c ls hx hb hr hml hlocks hts hown hnm hout hW hl
  have hown : s.vm.findClass RX1 = some m.cls := hown
  have hl : lv_has ls 6 [(0, .ref (L 1 0)), (1, .int a1), (2, .int a2)] := hl
  unfold m_X1_causes at hs
  have hL20 : ∀ (σ : st_T) (x2 : Int32) (ix3 : Nat) (t0 : Int32) (H : Heap) (locs : List Loc) (ls : Array Slot), wv g L σ s H locs → lv_has ls 6 [(0, .ref (L 1 0)), (2, .int x2), (3, .ref (L 85 ix3))] → m_X1_causes_L20 σ x2 ix3 t0 = some (o_, σ_) → W p l e (wrm 9 181 (xc o_) (xs o_)) s m args below meth c H locs 0 0 (vx_MQ below (wXi g L o_ σ_) (wX g o_ σ_ L) args s (xc o_) (xs o_) (fun q => gz g ≤ q)) (F0 m 20 ls [.int t0]) := by
    have hL29 : ∀ (n29 : Nat), ∀ (σ : st_T) (x2 : Int32) (ix3 : Nat) (x4 : Int32) (x5 : Int32) (H : Heap) (locs : List Loc) (ls : Array Slot), wv g L σ s H locs → lv_has ls 6 [(0, .ref (L 1 0)), (2, .int x2), (3, .ref (L 85 ix3)), (4, .int x4), (5, .int x5)] → (m_X1_causes_L29 n29) σ x2 ix3 x4 x5 = some (o_, σ_) → W p l e (wrm 9 181 (xc o_) (xs o_)) s m args below meth c H locs 0 0 (vx_MQ below (wXi g L o_ σ_) (wX g o_ σ_ L) args s (xc o_) (xs o_) (fun q => gz g ≤ q)) (F0 m 29 ls []) := by
      intro n29
      induction n29 with
      | zero => intro σ x2 ix3 x4 x5 H locs ls hW hl hs; rw [m_X1_causes_L29] at hs; cases hs
      | succ n29 ih29 =>
        have hL87 : ∀ (σ : st_T) (x2 : Int32) (ix3 : Nat) (x5 : Int32) (t0 : Int32) (t1 : Int32) (H : Heap) (locs : List Loc) (ls : Array Slot), wv g L σ s H locs → lv_has ls 6 [(0, .ref (L 1 0)), (2, .int x2), (3, .ref (L 85 ix3)), (5, .int x5)] → (m_X1_causes_L87 (m_X1_causes_L29 n29)) σ x2 ix3 x5 t0 t1 = some (o_, σ_) → W p l e (wrm 9 181 (xc o_) (xs o_)) s m args below meth c H locs 0 0 (vx_MQ below (wXi g L o_ σ_) (wX g o_ σ_ L) args s (xc o_) (xs o_) (fun q => gz g ≤ q)) (F0 m 87 ls [.int t1, .int t0]) := by
          intro σ x2 ix3 x5 t0 t1 H locs ls hW hl hs
          unfold m_X1_causes_L87 at hs
          refine lv_iadd hx hb dX1_causes_87 ?_
          refine lv_istore (lv' := [(4, .int (t0 + t1)), (0, .ref (L 1 0)), (2, .int x2), (3, .ref (L 85 ix3)), (5, .int x5)]) hx hb dX1_causes_88 hl (by decide) rfl (fun ls hl => ?_)
          refine lv_iinc (v := (x5 + (1 : Int32))) (lv' := [(5, .int (x5 + (1 : Int32))), (4, .int (t0 + t1)), (0, .ref (L 1 0)), (2, .int x2), (3, .ref (L 85 ix3))]) hx hb dX1_causes_90 hl (k := 4) rfl rfl (by decide) rfl (fun ls hl => ?_)
          refine lv_goto (tgt := 29) hx hb dX1_causes_93 (by decide) ?_
          exact ih29 σ x2 ix3 (t0 + t1) (x5 + (1 : Int32)) _ _ ls hW (lv_sub hl [2, 3, 4, 1, 0] rfl) hs
        have hL86 : ∀ (σ : st_T) (x2 : Int32) (ix3 : Nat) (x5 : Int32) (t0 : Int32) (H : Heap) (locs : List Loc) (ls : Array Slot), wv g L σ s H locs → lv_has ls 6 [(0, .ref (L 1 0)), (2, .int x2), (3, .ref (L 85 ix3)), (5, .int x5)] → (m_X1_causes_L86 (m_X1_causes_L87 (m_X1_causes_L29 n29))) σ x2 ix3 x5 t0 = some (o_, σ_) → W p l e (wrm 9 181 (xc o_) (xs o_)) s m args below meth c H locs 0 0 (vx_MQ below (wXi g L o_ σ_) (wX g o_ σ_ L) args s (xc o_) (xs o_) (fun q => gz g ≤ q)) (F0 m 86 ls [.int t0]) := by
          intro σ x2 ix3 x5 t0 H locs ls hW hl hs
          unfold m_X1_causes_L86 at hs
          refine lv_iconst (v := 0) hx hb dX1_causes_86 (by decide) ?_
          exact hL87 σ x2 ix3 x5 t0 (0 : Int32) _ _ ls hW (lv_sub hl [0, 1, 2, 3] rfl) hs
        intro σ x2 ix3 x4 x5 H locs ls hW hl hs
        rw [m_X1_causes_L29] at hs
        refine lv_iload hx hb dX1_causes_29 (lv_at hl 4 rfl) ?_
        refine lv_aload_n hx hb dX1_causes_31 rfl (lv_at hl 0 rfl) ?_
        refine gf_X1_81 hx hb hts hown hW (pr_st (hW.rd hgm) (Nat.le_of_ble_eq_true rfl)) (hW.fl hgm (pr_st (hW.rd hgm) (Nat.le_of_ble_eq_true rfl)) 9 (by decide) rfl (by decide)) dX1_causes_32 ?_
        refine ww_ci (va_runV (As := []) (rest := [.int x5]) ⟨hx, hb, hml, hown, hts⟩ (c_AL_size g hgm l L σ 76 0 77 rfl rfl (pr_st (hW.rd hgm) (Nat.le_of_ble_eq_true rfl))) (cwV 0 hts (lw_V q514 q515 q516 q117 q517) rfl rfl rfl hd_J2_size ⟨(Nat.le_of_ble_eq_true rfl), (Nat.le_of_ble_eq_true rfl)⟩) (ww_preV hW (pr_st (hW.rd hgm) (Nat.le_of_ble_eq_true rfl)) (obv_0 rfl) rfl) rfl rfl hl.1 rfl (lv_room (Nat.le_of_ble_eq_true rfl)) dX1_causes_35 ⟨Nat.zero_le _, Nat.zero_le _⟩) hW (fun H locs hW => ?_)
        refine lv_icmp_ge (tgt := 96) hx hb dX1_causes_38 (by decide) (fun hc1 => ?_) (fun hc1 => ?_)
        · have hs := ww_T hs hc1
          refine lv_iload hx hb dX1_causes_96 (lv_at hl 3 rfl) ?_
          have hs := ww_S hs
          exact wx_i hx hb hr hlocks hW (congrArg Prod.fst hs) (congrArg Prod.snd hs) (Nat.zero_le _) (Nat.zero_le _) dX1_causes_98
        · have hs := ww_F hs hc1
          refine lv_iload hx hb dX1_causes_41 (lv_at hl 3 rfl) ?_
          refine lv_aload_n hx hb dX1_causes_43 rfl (lv_at hl 0 rfl) ?_
          refine gf_X1_81 hx hb hts hown hW (pr_st (hW.rd hgm) (Nat.le_of_ble_eq_true rfl)) (hW.fl hgm (pr_st (hW.rd hgm) (Nat.le_of_ble_eq_true rfl)) 9 (by decide) rfl (by decide)) dX1_causes_44 ?_
          refine lv_iload hx hb dX1_causes_47 (lv_at hl 4 rfl) ?_
          obtain ⟨hc2, hs⟩ := ww_chk hs
          refine ww_cr (va_runV (As := [.int x5]) (rest := [.int x4]) ⟨hx, hb, hml, hown, hts⟩ (c_AL_get g hgm l L σ 76 0 77 86 x5 rfl rfl rfl (pr_st (hW.rd hgm) (Nat.le_of_ble_eq_true rfl)) hc2) (cwV 1 hts (lw_V q518 q519 q520 q117 q521) rfl rfl rfl hd_J2_get ⟨(Nat.le_of_ble_eq_true rfl), (Nat.le_of_ble_eq_true rfl)⟩) (ww_preV hW (pr_st (hW.rd hgm) (Nat.le_of_ble_eq_true rfl)) (obv_0 rfl) rfl) rfl rfl hl.1 rfl (lv_room (Nat.le_of_ble_eq_true rfl)) dX1_causes_49 ⟨Nat.zero_le _, Nat.zero_le _⟩) hW (fun H locs hW => ?_)
          obtain ⟨hc3, hs⟩ := ww_chk hs
          refine ww_castS hx hb hown (hts _ q1576) hW (pr_dy hc3 rfl rfl) (obv_0 rfl) rfl dX1_causes_52 ?_
          refine gf_X1_479 hx hb hts hown hW (pr_dy hc3 rfl rfl) (hW.fl hgm (pr_dy hc3 rfl rfl) 0 (by decide) rfl (by decide)) dX1_causes_55 ?_
          refine lv_aload_n hx hb dX1_causes_58 rfl (lv_at hl 2 rfl) ?_
          obtain ⟨hc4, hs⟩ := ww_chk hs
          obtain ⟨hc5, hs⟩ := ww_chk hs
          refine ww_acmp (tgt := 86) hx hb hW (pr_dy hc4 rfl rfl) (pr_dy hc5 rfl rfl) dX1_causes_59 (by decide) (fun hc6 => ?_) (fun hc6 => ?_)
          · have hs := ww_F hs hc6
            exact hL86 σ x2 ix3 x5 x4 _ _ ls hW (lv_sub hl [0, 1, 2, 4] rfl) hs
          · have hs := ww_T hs hc6
            refine lv_aload_n hx hb dX1_causes_62 rfl (lv_at hl 0 rfl) ?_
            refine lv_aload_n hx hb dX1_causes_63 rfl (lv_at hl 0 rfl) ?_
            refine gf_X1_81 hx hb hts hown hW (pr_st (hW.rd hgm) (Nat.le_of_ble_eq_true rfl)) (hW.fl hgm (pr_st (hW.rd hgm) (Nat.le_of_ble_eq_true rfl)) 9 (by decide) rfl (by decide)) dX1_causes_64 ?_
            refine lv_iload hx hb dX1_causes_67 (lv_at hl 4 rfl) ?_
            obtain ⟨hc7, hs⟩ := ww_chk hs
            refine ww_cr (va_runV (As := [.int x5]) (rest := [.ref (L 1 0), .int x4]) ⟨hx, hb, hml, hown, hts⟩ (c_AL_get g hgm l L σ 76 0 77 86 x5 rfl rfl rfl (pr_st (hW.rd hgm) (Nat.le_of_ble_eq_true rfl)) hc7) (cwV 1 hts (lw_V q518 q519 q520 q117 q521) rfl rfl rfl hd_J2_get ⟨(Nat.le_of_ble_eq_true rfl), (Nat.le_of_ble_eq_true rfl)⟩) (ww_preV hW (pr_st (hW.rd hgm) (Nat.le_of_ble_eq_true rfl)) (obv_0 rfl) rfl) rfl rfl hl.1 rfl (lv_room (Nat.le_of_ble_eq_true rfl)) dX1_causes_69 ⟨Nat.zero_le _, Nat.zero_le _⟩) hW (fun H locs hW => ?_)
            refine ww_castS hx hb hown (hts _ q1576) hW (pr_dy hc3 rfl rfl) (obv_0 rfl) rfl dX1_causes_72 ?_
            obtain ⟨v10, σ11, hc8, hs⟩ := ww_bn2 hs
            refine ww_ci (va_runV (As := [.ref (L 86 (gP_ σ 77 (2 + x5.toNatClampNeg) 0))]) (rest := [.int x4]) ⟨hx, hb, hml, hown, hts⟩ (c_X1_causeOf g hgm l L σ (gP_ σ 77 (2 + x5.toNatClampNeg) 0) _ _ hc8) (cwV 1 hts (lw_V q1602 q1604 qs40 q111 q1605) rfl rfl rfl hd_X1_causeOf ⟨(Nat.le_of_ble_eq_true rfl), (Nat.le_of_ble_eq_true rfl)⟩) (ww_preV hW (pr_st (hW.rd hgm) (Nat.le_of_ble_eq_true rfl)) (obv_0 rfl) rfl) rfl rfl hl.1 rfl (lv_room (Nat.le_of_ble_eq_true rfl)) dX1_causes_75 ⟨Nat.le_of_ble_eq_true rfl, Nat.le_of_ble_eq_true rfl⟩) hW (fun H locs hW => ?_)
            refine lv_iload_n hx hb dX1_causes_78 rfl (lv_at hl 1 rfl) ?_
            refine lv_icmp_ne (tgt := 86) hx hb dX1_causes_79 (by decide) (fun hc12 => ?_) (fun hc12 => ?_)
            · have hs := ww_F hs hc12
              exact hL86 σ11 x2 ix3 x5 x4 _ _ ls hW (lv_sub hl [0, 1, 2, 4] rfl) hs
            · have hs := ww_T hs hc12
              refine lv_iconst (v := 1) hx hb dX1_causes_82 (by decide) ?_
              refine lv_goto (tgt := 87) hx hb dX1_causes_83 (by decide) ?_
              exact hL87 σ11 x2 ix3 x5 x4 (1 : Int32) _ _ ls hW (lv_sub hl [0, 1, 2, 4] rfl) hs
    intro σ x2 ix3 t0 H locs ls hW hl hs
    unfold m_X1_causes_L20 at hs
    obtain ⟨o15, hc13, hs⟩ := ww_bnd hs
    rcases o15 with k16 | v17
    · have hs := ww_sL hs
      have hs := ww_S hs
      have e1 : o_ = .inl k16 := congrArg Prod.fst hs
      have e2 : σ_ = σ := congrArg Prod.snd hs
      subst e1
      exact wx_prop (vx_runS (As := [.int t0]) (rest := []) ⟨hx, hb, hml, hown, hts⟩ (c_X1_wrong g hgm l L σ t0 hst _ hc13) (va_cwS 1 hts (lw_S q848 q849 q111 q850) rfl rfl rfl hd_X1_wrong.2 ⟨(Nat.le_of_ble_eq_true rfl), (Nat.le_of_ble_eq_true rfl)⟩) (ww_preS hW) rfl rfl hl.1 rfl (lv_room (Nat.le_of_ble_eq_true rfl)) dX1_causes_20 ⟨Nat.le_of_ble_eq_true rfl, Nat.le_of_ble_eq_true rfl⟩) no_v hW hlocks hout rfl e2 (Nat.le_of_ble_eq_true rfl) (Nat.le_of_ble_eq_true rfl)
    · have hs := ww_sR hs
      refine ww_xv0 (vx_runS (As := [.int t0]) (rest := []) ⟨hx, hb, hml, hown, hts⟩ (c_X1_wrong g hgm l L σ t0 hst _ hc13) (va_cwS 1 hts (lw_S q848 q849 q111 q850) rfl rfl rfl hd_X1_wrong.2 ⟨(Nat.le_of_ble_eq_true rfl), (Nat.le_of_ble_eq_true rfl)⟩) (ww_preS hW) rfl rfl hl.1 rfl (lv_room (Nat.le_of_ble_eq_true rfl)) dX1_causes_20 ⟨Nat.zero_le _, Nat.zero_le _⟩) hW (fun H locs hW => ?_)
      refine lv_iconst (v := 0) hx hb dX1_causes_23 (by decide) ?_
      refine lv_istore (lv' := [(4, .int (0 : Int32)), (0, .ref (L 1 0)), (2, .int x2), (3, .ref (L 85 ix3))]) hx hb dX1_causes_24 hl (by decide) rfl (fun ls hl => ?_)
      refine lv_iconst (v := 0) hx hb dX1_causes_26 (by decide) ?_
      refine lv_istore (lv' := [(5, .int (0 : Int32)), (4, .int (0 : Int32)), (0, .ref (L 1 0)), (2, .int x2), (3, .ref (L 85 ix3))]) hx hb dX1_causes_27 hl (by decide) rfl (fun ls hl => ?_)
      exact hL29 fu_ σ x2 ix3 (0 : Int32) (0 : Int32) _ _ ls hW (lv_sub hl [2, 3, 4, 1, 0] rfl) hs
  refine lv_aload_n hx hb dX1_causes_0 rfl (lv_at hl 0 rfl) ?_
  refine lv_iload_n hx hb dX1_causes_1 rfl (lv_at hl 1 rfl) ?_
  obtain ⟨o20, hc18, hs⟩ := ww_bnd hs
  rcases o20 with k21 | v22
  · have hs := ww_sL hs
    have hs := ww_S hs
    have e1 : o_ = .inl k21 := congrArg Prod.fst hs
    have e2 : σ_ = σ := congrArg Prod.snd hs
    subst e1
    exact wx_prop (vx_runV (As := [.int a1]) (rest := []) ⟨hx, hb, hml, hown, hts⟩ (c_X1_wireAt g hgm l L σ a1 hst _ hc18) (cwV 1 hts (lw_V q1572 q1574 qs38 q111 q1575) rfl rfl rfl hd_X1_wireAt ⟨(Nat.le_of_ble_eq_true rfl), (Nat.le_of_ble_eq_true rfl)⟩) (ww_preV hW (pr_st (hW.rd hgm) (Nat.le_of_ble_eq_true rfl)) (obv_0 rfl) rfl) rfl rfl hl.1 rfl (lv_room (Nat.le_of_ble_eq_true rfl)) dX1_causes_2 ⟨Nat.le_of_ble_eq_true rfl, Nat.le_of_ble_eq_true rfl⟩) no_r hW hlocks hout rfl e2 (Nat.le_of_ble_eq_true rfl) (Nat.le_of_ble_eq_true rfl)
  · have hs := ww_sR hs
    refine ww_xr0 (vx_runV (As := [.int a1]) (rest := []) ⟨hx, hb, hml, hown, hts⟩ (c_X1_wireAt g hgm l L σ a1 hst _ hc18) (cwV 1 hts (lw_V q1572 q1574 qs38 q111 q1575) rfl rfl rfl hd_X1_wireAt ⟨(Nat.le_of_ble_eq_true rfl), (Nat.le_of_ble_eq_true rfl)⟩) (ww_preV hW (pr_st (hW.rd hgm) (Nat.le_of_ble_eq_true rfl)) (obv_0 rfl) rfl) rfl rfl hl.1 rfl (lv_room (Nat.le_of_ble_eq_true rfl)) dX1_causes_2 ⟨Nat.zero_le _, Nat.zero_le _⟩) hW (fun H locs hW => ?_)
    refine lv_astore_n (lv' := [(3, .ref (L 85 v22)), (0, .ref (L 1 0)), (1, .int a1), (2, .int a2)]) hx hb dX1_causes_5 rfl hl (by decide) rfl (fun ls hl => ?_)
    refine lv_iload_n hx hb dX1_causes_6 rfl (lv_at hl 3 rfl) ?_
    refine lv_iconst (v := 0) hx hb dX1_causes_7 (by decide) ?_
    refine lv_iconst (v := 3) hx hb dX1_causes_8 (by decide) ?_
    obtain ⟨v25, hc23, hs⟩ := ww_bnd hs
    refine ww_ci (va_runS (As := [.int a2, .int (0 : Int32), .int (3 : Int32)]) (rest := []) ⟨hx, hb, hml, hown, hts⟩ (c_X1_in g hgm l L σ a2 (0 : Int32) (3 : Int32) _ hc23) (va_cwS 3 hts (lw_S q824 q825 q111 q826) rfl rfl rfl hd_X1_in.2 ⟨(Nat.le_of_ble_eq_true rfl), (Nat.le_of_ble_eq_true rfl)⟩) (ww_preS hW) rfl rfl hl.1 rfl (lv_room (Nat.le_of_ble_eq_true rfl)) dX1_causes_9 ⟨Nat.le_of_ble_eq_true rfl, Nat.le_of_ble_eq_true rfl⟩) hW (fun H locs hW => ?_)
    refine lv_if_ne (tgt := 19) hx hb dX1_causes_12 (by decide) (fun hc26 => ?_) (fun hc26 => ?_)
    · have hs := ww_F hs hc26
      refine lv_iconst (v := 0) hx hb dX1_causes_19 (by decide) ?_
      exact hL20 σ a2 v22 (0 : Int32) _ _ ls hW (lv_sub hl [1, 3, 0] rfl) hs
    · have hs := ww_T hs hc26
      refine lv_iconst (v := 1) hx hb dX1_causes_15 (by decide) ?_
      refine lv_goto (tgt := 20) hx hb dX1_causes_16 (by decide) ?_
      exact hL20 σ a2 v22 (1 : Int32) _ _ ls hW (lv_sub hl [1, 3, 0] rfl) hs
set_option maxHeartbeats 4000000 in
theorem c_X1_fix (g : wg_T) (hgm : gm g = true) (l : Launch) (L : ly_T) (σ : st_T) (a1 : Int32) (a2 : Int32) (a3 : Int32) (hst : l.stackTraces = false) (o_ : Nat ⊕ Int32) (σ_ : st_T) (hs : m_X1_fix σ a1 a2 a3 = some (o_, σ_)) : XI g l yX1_fix (ws_ yX1_fix cX1_fix 5 (some .int)) 10 180 (xc o_) (xs o_) [.ref (L 1 0), .int a1, .int a2, .int a3] L σ o_ σ_ := by
  refine xbody.met (by decide) (Nat.le_of_ble_eq_true rfl) ?_
  intro p e s m args below meth c ls hx hb hr hml hlocks hts hown hnm hout hW hl
  have hown : s.vm.findClass RX1 = some m.cls := hown
  have hl : lv_has ls 5 [(0, .ref (L 1 0)), (1, .int a1), (2, .int a2), (3, .int a3)] := hl
  unfold m_X1_fix at hs
  have hL31 : ∀ (σ : st_T) (x2 : Int32) (x3 : Int32) (ix4 : Nat) (t0 : Int32) (H : Heap) (locs : List Loc) (ls : Array Slot), wv g L σ s H locs → lv_has ls 5 [(0, .ref (L 1 0)), (2, .int x2), (3, .int x3), (4, .ref (L 80 ix4))] → m_X1_fix_L31 σ x2 x3 ix4 t0 = some (o_, σ_) → W p l e (wrm 10 180 (xc o_) (xs o_)) s m args below meth c H locs 0 0 (vx_MQ below (wXi g L o_ σ_) (wX g o_ σ_ L) args s (xc o_) (xs o_) (fun q => gz g ≤ q)) (F0 m 31 ls [.int t0]) := by
    have hL74 : ∀ (σ : st_T) (x2 : Int32) (x3 : Int32) (ix4 : Nat) (H : Heap) (locs : List Loc) (ls : Array Slot), wv g L σ s H locs → lv_has ls 5 [(0, .ref (L 1 0)), (2, .int x2), (3, .int x3), (4, .ref (L 80 ix4))] → m_X1_fix_L74 σ x2 x3 ix4 = some (o_, σ_) → W p l e (wrm 10 180 (xc o_) (xs o_)) s m args below meth c H locs 0 0 (vx_MQ below (wXi g L o_ σ_) (wX g o_ σ_ L) args s (xc o_) (xs o_) (fun q => gz g ≤ q)) (F0 m 74 ls []) := by
      intro σ x2 x3 ix4 H locs ls hW hl hs
      unfold m_X1_fix_L74 at hs
      refine lv_aload_n hx hb dX1_fix_74 rfl (lv_at hl 0 rfl) ?_
      refine lv_aload hx hb dX1_fix_75 (lv_at hl 3 rfl) ?_
      refine lv_iload_n hx hb dX1_fix_77 rfl (lv_at hl 1 rfl) ?_
      obtain ⟨σ3, hc1, hs⟩ := ww_bnd hs
      refine ww_cv (va_runV (As := [.ref (L 80 ix4), .int x2]) (rest := []) ⟨hx, hb, hml, hown, hts⟩ (c_X1_places g hgm l L σ ix4 x2 _ hc1) (cwV 2 hts (lw_V q1496 q1498 qs34 q111 q1499) rfl rfl rfl hd_X1_places ⟨(Nat.le_of_ble_eq_true rfl), (Nat.le_of_ble_eq_true rfl)⟩) (ww_preV hW (pr_st (hW.rd hgm) (Nat.le_of_ble_eq_true rfl)) (obv_0 rfl) rfl) rfl rfl hl.1 rfl (lv_room (Nat.le_of_ble_eq_true rfl)) dX1_fix_78 ⟨Nat.le_of_ble_eq_true rfl, Nat.le_of_ble_eq_true rfl⟩) hW (fun H locs hW => ?_)
      refine lv_aload_n hx hb dX1_fix_81 rfl (lv_at hl 0 rfl) ?_
      refine gf_X1_140 hx hb hts hown hW (pr_st (hW.rd hgm) (Nat.le_of_ble_eq_true rfl)) (hW.fl hgm (pr_st (hW.rd hgm) (Nat.le_of_ble_eq_true rfl)) 28 (by decide) rfl (by decide)) dX1_fix_82 ?_
      refine lv_iload_n hx hb dX1_fix_85 rfl (lv_at hl 2 rfl) ?_
      obtain ⟨hc4, hs⟩ := ww_chk hs
      refine ww_zald hx hb hW 38 0 (pr_st (hW.rd hgm) (Nat.le_of_ble_eq_true rfl)) rfl hc4 dX1_fix_86 ?_
      refine lv_if_ne (tgt := 93) hx hb dX1_fix_87 (by decide) (fun hc5 => ?_) (fun hc5 => ?_)
      · have hs := ww_F hs hc5
        refine lv_aload hx hb dX1_fix_93 (lv_at hl 3 rfl) ?_
        obtain ⟨hc6, hs⟩ := ww_chk hs
        refine gf_X1_434 hx hb hts hown hW (pr_dy hc6 rfl rfl) (hW.fl hgm (pr_dy hc6 rfl rfl) 3 (by decide) rfl (by decide)) dX1_fix_95 ?_
        refine lv_aload hx hb dX1_fix_98 (lv_at hl 3 rfl) ?_
        refine gf_X1_203 hx hb hts hown hW (pr_dy hc6 rfl rfl) dX1_fix_100 ?_
        refine lv_iload_n hx hb dX1_fix_103 rfl (lv_at hl 1 rfl) ?_
        obtain ⟨hc7, hs⟩ := ww_chk hs
        obtain ⟨hc8, hs⟩ := ww_chk hs
        obtain ⟨σ9, e10, hs⟩ := ww_let hs
        refine ww_iast hx hb hW 81 ix4 (pr_dy hc7 rfl rfl) rfl hc8 dX1_fix_104 (fun H locs hW => ?_)
        have hW : wv g L σ9 s H locs := by rw [e10]; exact hW
        have hc11 : ix4 < gN_ σ9 80 := by rw [e10]; exact hc6
        have hc12 : ix4 < gN_ σ9 81 := by rw [e10]; exact hc7
        refine lv_aload hx hb dX1_fix_105 (lv_at hl 3 rfl) ?_
        refine gf_X1_206 hx hb hts hown hW (pr_dy hc11 rfl rfl) (hW.fl hgm (pr_dy hc11 rfl rfl) 4 (by decide) rfl (by decide)) dX1_fix_107 ?_
        refine lv_aload hx hb dX1_fix_110 (lv_at hl 3 rfl) ?_
        refine gf_X1_203 hx hb hts hown hW (pr_dy hc11 rfl rfl) dX1_fix_112 ?_
        refine lv_iload_n hx hb dX1_fix_115 rfl (lv_at hl 2 rfl) ?_
        obtain ⟨hc13, hs⟩ := ww_chk hs
        obtain ⟨hc14, hs⟩ := ww_chk hs
        obtain ⟨σ15, e16, hs⟩ := ww_let hs
        refine ww_iast hx hb hW 82 ix4 (pr_dy hc13 rfl rfl) rfl hc14 dX1_fix_116 (fun H locs hW => ?_)
        have hW : wv g L σ15 s H locs := by rw [e16]; exact hW
        have hc17 : ix4 < gN_ σ15 80 := by rw [e16]; exact hc11
        have hc18 : ix4 < gN_ σ15 81 := by rw [e16]; exact hc12
        have hc19 : ix4 < gN_ σ15 82 := by rw [e16]; exact hc13
        refine lv_aload hx hb dX1_fix_117 (lv_at hl 3 rfl) ?_
        refine lv_dup hx hb dX1_fix_119 rfl ?_
        refine gf_X1_203 hx hb hts hown hW (pr_dy hc17 rfl rfl) dX1_fix_120 ?_
        refine lv_iconst (v := 1) hx hb dX1_fix_123 (by decide) ?_
        refine lv_iadd hx hb dX1_fix_124 ?_
        obtain ⟨σ20, e21, hs⟩ := ww_let hs
        refine pf_X1_203 hx hb hts hown hW (pr_dy hc17 rfl rfl) dX1_fix_125 (fun H locs hW => ?_)
        have hW : wv g L σ20 s H locs := by rw [e21]; exact hW
        have hc22 : ix4 < gN_ σ20 80 := by rw [e21]; exact hc17
        have hc23 : ix4 < gN_ σ20 81 := by rw [e21]; exact hc18
        have hc24 : ix4 < gN_ σ20 82 := by rw [e21]; exact hc19
        refine lv_aload hx hb dX1_fix_128 (lv_at hl 3 rfl) ?_
        refine gf_X1_203 hx hb hts hown hW (pr_dy hc22 rfl rfl) dX1_fix_130 ?_
        have hs := ww_S hs
        exact wx_i hx hb hr hlocks hW (congrArg Prod.fst hs) (congrArg Prod.snd hs) (Nat.zero_le _) (Nat.zero_le _) dX1_fix_133
      · have hs := ww_T hs hc5
        refine lv_bipush (v := (-3)) hx hb dX1_fix_90 (by decide) ?_
        have hs := ww_S hs
        exact wx_i hx hb hr hlocks hW (congrArg Prod.fst hs) (congrArg Prod.snd hs) (Nat.zero_le _) (Nat.zero_le _) dX1_fix_92
    intro σ x2 x3 ix4 t0 H locs ls hW hl hs
    unfold m_X1_fix_L31 at hs
    obtain ⟨o27, hc25, hs⟩ := ww_bnd hs
    rcases o27 with k28 | v29
    · have hs := ww_sL hs
      have hs := ww_S hs
      have e1 : o_ = .inl k28 := congrArg Prod.fst hs
      have e2 : σ_ = σ := congrArg Prod.snd hs
      subst e1
      exact wx_prop (vx_runS (As := [.int t0]) (rest := []) ⟨hx, hb, hml, hown, hts⟩ (c_X1_wrong g hgm l L σ t0 hst _ hc25) (va_cwS 1 hts (lw_S q848 q849 q111 q850) rfl rfl rfl hd_X1_wrong.2 ⟨(Nat.le_of_ble_eq_true rfl), (Nat.le_of_ble_eq_true rfl)⟩) (ww_preS hW) rfl rfl hl.1 rfl (lv_room (Nat.le_of_ble_eq_true rfl)) dX1_fix_31 ⟨Nat.le_of_ble_eq_true rfl, Nat.le_of_ble_eq_true rfl⟩) no_v hW hlocks hout rfl e2 (Nat.le_of_ble_eq_true rfl) (Nat.le_of_ble_eq_true rfl)
    · have hs := ww_sR hs
      refine ww_xv0 (vx_runS (As := [.int t0]) (rest := []) ⟨hx, hb, hml, hown, hts⟩ (c_X1_wrong g hgm l L σ t0 hst _ hc25) (va_cwS 1 hts (lw_S q848 q849 q111 q850) rfl rfl rfl hd_X1_wrong.2 ⟨(Nat.le_of_ble_eq_true rfl), (Nat.le_of_ble_eq_true rfl)⟩) (ww_preS hW) rfl rfl hl.1 rfl (lv_room (Nat.le_of_ble_eq_true rfl)) dX1_fix_31 ⟨Nat.zero_le _, Nat.zero_le _⟩) hW (fun H locs hW => ?_)
      refine lv_aload hx hb dX1_fix_34 (lv_at hl 3 rfl) ?_
      obtain ⟨hc30, hs⟩ := ww_chk hs
      refine gf_X1_203 hx hb hts hown hW (pr_dy hc30 rfl rfl) dX1_fix_36 ?_
      refine lv_bipush (v := 20) hx hb dX1_fix_39 (by decide) ?_
      refine lv_icmp_ne (tgt := 46) hx hb dX1_fix_41 (by decide) (fun hc31 => ?_) (fun hc31 => ?_)
      · have hs := ww_F hs hc31
        refine lv_aload hx hb dX1_fix_46 (lv_at hl 3 rfl) ?_
        refine gf_X1_203 hx hb hts hown hW (pr_dy hc30 rfl rfl) dX1_fix_48 ?_
        refine lv_if_le (tgt := 74) hx hb dX1_fix_51 (by decide) (fun hc32 => ?_) (fun hc32 => ?_)
        · have hs := ww_T hs hc32
          exact hL74 σ x2 x3 ix4 _ _ ls hW (lv_sub hl [0, 1, 2, 3] rfl) hs
        · have hs := ww_F hs hc32
          refine lv_aload hx hb dX1_fix_54 (lv_at hl 3 rfl) ?_
          refine gf_X1_434 hx hb hts hown hW (pr_dy hc30 rfl rfl) (hW.fl hgm (pr_dy hc30 rfl rfl) 3 (by decide) rfl (by decide)) dX1_fix_56 ?_
          refine lv_aload hx hb dX1_fix_59 (lv_at hl 3 rfl) ?_
          refine gf_X1_203 hx hb hts hown hW (pr_dy hc30 rfl rfl) dX1_fix_61 ?_
          refine lv_iconst (v := 1) hx hb dX1_fix_64 (by decide) ?_
          refine lv_isub hx hb dX1_fix_65 ?_
          obtain ⟨hc33, hs⟩ := ww_chk hs
          obtain ⟨hc34, hs⟩ := ww_chk hs
          refine ww_iald hx hb hW 81 ix4 (pr_dy hc33 rfl rfl) rfl hc34 dX1_fix_66 ?_
          refine lv_iload_n hx hb dX1_fix_67 rfl (lv_at hl 1 rfl) ?_
          refine lv_icmp_lt (tgt := 74) hx hb dX1_fix_68 (by decide) (fun hc35 => ?_) (fun hc35 => ?_)
          · have hs := ww_T hs hc35
            exact hL74 σ x2 x3 ix4 _ _ ls hW (lv_sub hl [0, 1, 2, 3] rfl) hs
          · have hs := ww_F hs hc35
            refine lv_bipush (v := (-2)) hx hb dX1_fix_71 (by decide) ?_
            have hs := ww_S hs
            exact wx_i hx hb hr hlocks hW (congrArg Prod.fst hs) (congrArg Prod.snd hs) (Nat.zero_le _) (Nat.zero_le _) dX1_fix_73
      · have hs := ww_T hs hc31
        refine lv_iconst (v := (-1)) hx hb dX1_fix_44 (by decide) ?_
        have hs := ww_S hs
        exact wx_i hx hb hr hlocks hW (congrArg Prod.fst hs) (congrArg Prod.snd hs) (Nat.zero_le _) (Nat.zero_le _) dX1_fix_45
  refine lv_aload_n hx hb dX1_fix_0 rfl (lv_at hl 0 rfl) ?_
  refine lv_iload_n hx hb dX1_fix_1 rfl (lv_at hl 1 rfl) ?_
  obtain ⟨o38, hc36, hs⟩ := ww_bnd hs
  rcases o38 with k39 | v40
  · have hs := ww_sL hs
    have hs := ww_S hs
    have e1 : o_ = .inl k39 := congrArg Prod.fst hs
    have e2 : σ_ = σ := congrArg Prod.snd hs
    subst e1
    exact wx_prop (vx_runV (As := [.int a1]) (rest := []) ⟨hx, hb, hml, hown, hts⟩ (c_X1_herdAt g hgm l L σ a1 hst _ hc36) (cwV 1 hts (lw_V q1191 q1193 qs27 q111 q1194) rfl rfl rfl hd_X1_herdAt ⟨(Nat.le_of_ble_eq_true rfl), (Nat.le_of_ble_eq_true rfl)⟩) (ww_preV hW (pr_st (hW.rd hgm) (Nat.le_of_ble_eq_true rfl)) (obv_0 rfl) rfl) rfl rfl hl.1 rfl (lv_room (Nat.le_of_ble_eq_true rfl)) dX1_fix_2 ⟨Nat.le_of_ble_eq_true rfl, Nat.le_of_ble_eq_true rfl⟩) no_r hW hlocks hout rfl e2 (Nat.le_of_ble_eq_true rfl) (Nat.le_of_ble_eq_true rfl)
  · have hs := ww_sR hs
    refine ww_xr0 (vx_runV (As := [.int a1]) (rest := []) ⟨hx, hb, hml, hown, hts⟩ (c_X1_herdAt g hgm l L σ a1 hst _ hc36) (cwV 1 hts (lw_V q1191 q1193 qs27 q111 q1194) rfl rfl rfl hd_X1_herdAt ⟨(Nat.le_of_ble_eq_true rfl), (Nat.le_of_ble_eq_true rfl)⟩) (ww_preV hW (pr_st (hW.rd hgm) (Nat.le_of_ble_eq_true rfl)) (obv_0 rfl) rfl) rfl rfl hl.1 rfl (lv_room (Nat.le_of_ble_eq_true rfl)) dX1_fix_2 ⟨Nat.zero_le _, Nat.zero_le _⟩) hW (fun H locs hW => ?_)
    refine lv_astore (lv' := [(4, .ref (L 80 v40)), (0, .ref (L 1 0)), (1, .int a1), (2, .int a2), (3, .int a3)]) hx hb dX1_fix_5 hl (by decide) rfl (fun ls hl => ?_)
    refine lv_iload_n hx hb dX1_fix_7 rfl (lv_at hl 4 rfl) ?_
    obtain ⟨o43, hc41, hs⟩ := ww_bnd hs
    rcases o43 with k44 | v45
    · have hs := ww_sL hs
      have hs := ww_S hs
      have e1 : o_ = .inl k44 := congrArg Prod.fst hs
      have e2 : σ_ = σ := congrArg Prod.snd hs
      subst e1
      exact wx_prop (vx_runS (As := [.int a3]) (rest := []) ⟨hx, hb, hml, hown, hts⟩ (c_X1_cell g hgm l L σ a3 hst _ hc41) (va_cwS 1 hts (lw_S q821 q822 q111 q823) rfl rfl rfl hd_X1_cell.2 ⟨(Nat.le_of_ble_eq_true rfl), (Nat.le_of_ble_eq_true rfl)⟩) (ww_preS hW) rfl rfl hl.1 rfl (lv_room (Nat.le_of_ble_eq_true rfl)) dX1_fix_8 ⟨Nat.le_of_ble_eq_true rfl, Nat.le_of_ble_eq_true rfl⟩) no_v hW hlocks hout rfl e2 (Nat.le_of_ble_eq_true rfl) (Nat.le_of_ble_eq_true rfl)
    · have hs := ww_sR hs
      refine ww_xv0 (vx_runS (As := [.int a3]) (rest := []) ⟨hx, hb, hml, hown, hts⟩ (c_X1_cell g hgm l L σ a3 hst _ hc41) (va_cwS 1 hts (lw_S q821 q822 q111 q823) rfl rfl rfl hd_X1_cell.2 ⟨(Nat.le_of_ble_eq_true rfl), (Nat.le_of_ble_eq_true rfl)⟩) (ww_preS hW) rfl rfl hl.1 rfl (lv_room (Nat.le_of_ble_eq_true rfl)) dX1_fix_8 ⟨Nat.zero_le _, Nat.zero_le _⟩) hW (fun H locs hW => ?_)
      refine lv_iload_n hx hb dX1_fix_11 rfl (lv_at hl 3 rfl) ?_
      obtain ⟨o48, hc46, hs⟩ := ww_bnd hs
      rcases o48 with k49 | v50
      · have hs := ww_sL hs
        have hs := ww_S hs
        have e1 : o_ = .inl k49 := congrArg Prod.fst hs
        have e2 : σ_ = σ := congrArg Prod.snd hs
        subst e1
        exact wx_prop (vx_runS (As := [.int a2]) (rest := []) ⟨hx, hb, hml, hown, hts⟩ (c_X1_hour g hgm l L σ a2 hst _ hc46) (va_cwS 1 hts (lw_S q1493 q1494 q111 q1495) rfl rfl rfl hd_X1_hour.2 ⟨(Nat.le_of_ble_eq_true rfl), (Nat.le_of_ble_eq_true rfl)⟩) (ww_preS hW) rfl rfl hl.1 rfl (lv_room (Nat.le_of_ble_eq_true rfl)) dX1_fix_12 ⟨Nat.le_of_ble_eq_true rfl, Nat.le_of_ble_eq_true rfl⟩) no_v hW hlocks hout rfl e2 (Nat.le_of_ble_eq_true rfl) (Nat.le_of_ble_eq_true rfl)
      · have hs := ww_sR hs
        refine ww_xv0 (vx_runS (As := [.int a2]) (rest := []) ⟨hx, hb, hml, hown, hts⟩ (c_X1_hour g hgm l L σ a2 hst _ hc46) (va_cwS 1 hts (lw_S q1493 q1494 q111 q1495) rfl rfl rfl hd_X1_hour.2 ⟨(Nat.le_of_ble_eq_true rfl), (Nat.le_of_ble_eq_true rfl)⟩) (ww_preS hW) rfl rfl hl.1 rfl (lv_room (Nat.le_of_ble_eq_true rfl)) dX1_fix_12 ⟨Nat.zero_le _, Nat.zero_le _⟩) hW (fun H locs hW => ?_)
        refine lv_aload_n hx hb dX1_fix_15 rfl (lv_at hl 1 rfl) ?_
        refine gf_X1_44 hx hb hts hown hW (pr_st (hW.rd hgm) (Nat.le_of_ble_eq_true rfl)) (hW.fl hgm (pr_st (hW.rd hgm) (Nat.le_of_ble_eq_true rfl)) 1 (by decide) rfl (by decide)) dX1_fix_16 ?_
        refine lv_iload_n hx hb dX1_fix_19 rfl (lv_at hl 4 rfl) ?_
        obtain ⟨v53, hc51, hs⟩ := ww_bnd hs
        refine ww_ci (va_runV (As := [.int a3]) (rest := []) ⟨hx, hb, hml, hown, hts⟩ (c_X2_isOpen g hgm l L σ 0 a3 _ hc51) (cwV 1 hts (lw_V q1246 q548 q549 q112 q550) rfl rfl rfl hd_X2_isOpen ⟨(Nat.le_of_ble_eq_true rfl), (Nat.le_of_ble_eq_true rfl)⟩) (ww_preV hW (pr_st (hW.rd hgm) (Nat.le_of_ble_eq_true rfl)) (obv_0 rfl) rfl) rfl rfl hl.1 rfl (lv_room (Nat.le_of_ble_eq_true rfl)) dX1_fix_20 ⟨Nat.le_of_ble_eq_true rfl, Nat.le_of_ble_eq_true rfl⟩) hW (fun H locs hW => ?_)
        refine lv_if_ne (tgt := 30) hx hb dX1_fix_23 (by decide) (fun hc54 => ?_) (fun hc54 => ?_)
        · have hs := ww_F hs hc54
          refine lv_iconst (v := 0) hx hb dX1_fix_30 (by decide) ?_
          exact hL31 σ a2 a3 v40 (0 : Int32) _ _ ls hW (lv_sub hl [1, 3, 4, 0] rfl) hs
        · have hs := ww_T hs hc54
          refine lv_iconst (v := 1) hx hb dX1_fix_26 (by decide) ?_
          refine lv_goto (tgt := 31) hx hb dX1_fix_27 (by decide) ?_
          exact hL31 σ a2 a3 v40 (1 : Int32) _ _ ls hW (lv_sub hl [1, 3, 4, 0] rfl) hs
set_option maxHeartbeats 4000000 in
theorem c_X1_cause (g : wg_T) (hgm : gm g = true) (l : Launch) (L : ly_T) (σ : st_T) (a1 : Int32) (hst : l.stackTraces = false) (o_ : Nat ⊕ Int32) (σ_ : st_T) (hs : m_X1_cause σ a1 = some (o_, σ_)) : XI g l yX1_cause (ws_ yX1_cause cX1_cause 2 (some .int)) 9 181 (xc o_) (xs o_) [.ref (L 1 0), .int a1] L σ o_ σ_ := by
  refine xbody.met (by decide) (Nat.le_of_ble_eq_true rfl) ?_
  intro p e s m args below meth c ls hx hb hr hml hlocks hts hown hnm hout hW hl
  have hown : s.vm.findClass RX1 = some m.cls := hown
  have hl : lv_has ls 2 [(0, .ref (L 1 0)), (1, .int a1)] := hl
  unfold m_X1_cause at hs
  refine lv_aload_n hx hb dX1_cause_0 rfl (lv_at hl 0 rfl) ?_
  refine lv_aload_n hx hb dX1_cause_1 rfl (lv_at hl 0 rfl) ?_
  refine lv_iload_n hx hb dX1_cause_2 rfl (lv_at hl 1 rfl) ?_
  obtain ⟨o3, hc1, hs⟩ := ww_bnd hs
  rcases o3 with k4 | v5
  · have hs := ww_sL hs
    have hs := ww_S hs
    have e1 : o_ = .inl k4 := congrArg Prod.fst hs
    have e2 : σ_ = σ := congrArg Prod.snd hs
    subst e1
    exact wx_prop (vx_runV (As := [.int a1]) (rest := [.ref (L 1 0)]) ⟨hx, hb, hml, hown, hts⟩ (c_X1_tripAt g hgm l L σ a1 hst _ hc1) (cwV 1 hts (lw_V q1598 q1600 qs39 q111 q1601) rfl rfl rfl hd_X1_tripAt ⟨(Nat.le_of_ble_eq_true rfl), (Nat.le_of_ble_eq_true rfl)⟩) (ww_preV hW (pr_st (hW.rd hgm) (Nat.le_of_ble_eq_true rfl)) (obv_0 rfl) rfl) rfl rfl hl.1 rfl (lv_room (Nat.le_of_ble_eq_true rfl)) dX1_cause_3 ⟨Nat.le_of_ble_eq_true rfl, Nat.le_of_ble_eq_true rfl⟩) no_r hW hlocks hout rfl e2 (Nat.le_of_ble_eq_true rfl) (Nat.le_of_ble_eq_true rfl)
  · have hs := ww_sR hs
    refine ww_xr0 (vx_runV (As := [.int a1]) (rest := [.ref (L 1 0)]) ⟨hx, hb, hml, hown, hts⟩ (c_X1_tripAt g hgm l L σ a1 hst _ hc1) (cwV 1 hts (lw_V q1598 q1600 qs39 q111 q1601) rfl rfl rfl hd_X1_tripAt ⟨(Nat.le_of_ble_eq_true rfl), (Nat.le_of_ble_eq_true rfl)⟩) (ww_preV hW (pr_st (hW.rd hgm) (Nat.le_of_ble_eq_true rfl)) (obv_0 rfl) rfl) rfl rfl hl.1 rfl (lv_room (Nat.le_of_ble_eq_true rfl)) dX1_cause_3 ⟨Nat.zero_le _, Nat.zero_le _⟩) hW (fun H locs hW => ?_)
    obtain ⟨v8, σ9, hc6, hs⟩ := ww_bn2 hs
    refine ww_ci (va_runV (As := [.ref (L 86 v5)]) (rest := []) ⟨hx, hb, hml, hown, hts⟩ (c_X1_causeOf g hgm l L σ v5 _ _ hc6) (cwV 1 hts (lw_V q1602 q1604 qs40 q111 q1605) rfl rfl rfl hd_X1_causeOf ⟨(Nat.le_of_ble_eq_true rfl), (Nat.le_of_ble_eq_true rfl)⟩) (ww_preV hW (pr_st (hW.rd hgm) (Nat.le_of_ble_eq_true rfl)) (obv_0 rfl) rfl) rfl rfl hl.1 rfl (lv_room (Nat.le_of_ble_eq_true rfl)) dX1_cause_6 ⟨Nat.le_of_ble_eq_true rfl, Nat.le_of_ble_eq_true rfl⟩) hW (fun H locs hW => ?_)
    have hs := ww_S hs
    exact wx_i hx hb hr hlocks hW (congrArg Prod.fst hs) (congrArg Prod.snd hs) (Nat.zero_le _) (Nat.zero_le _) dX1_cause_9
