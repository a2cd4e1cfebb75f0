/-! PART 25 (printed by wip/gen/gen25.py): all methods together -/
set_option maxRecDepth 100000
def z_pg : Nat → z_M := fun y => ([xP0, xP1, xP2, xP3, xP4, xP5, xP6, xP7, xP8, xP9, xP10, xP11, xP12, xP13, xP14, xP15, xP16, xP17, xP18, xP19, xP20, xP21, xP22, xP23, xP24, xP25, xP26, xP27, xP28, xP29, xP30, xP31, xP32, xP33, xP34, xP35, xP36, xP37, xP38, xP39, xP40, xP41, xP42, xP43, xP44, xP45, xP46, xP47, xP48, xP49, xP50, xP51, xP52, xP53, xP54, xP55, xP56, xP57, xP58, xP59, xP60, xP61, xP62, xP63, xP64, xP65, xP66, xP67, xP68, xP69, xP70, xP71, xP72, xP73, xP74, xP75, xP76, xP77, xP78, xP79, xP80, xP81, xP82, xP83, xP84, xP85, xP86, xP87, xP88, xP89, xP90, xP91, xP92, xP93, xP94, xP95, xP96, xP97, xP98, xP99, xP100, xP101, xP102, xP103, xP104, xP105, xP106, xP107, xP108, xP109, xP110, xP111, xP112, xP113, xP114, xP115, xP116, xP117, xP118, xP119, xP120, xP121, xP122, xP123, xP124, xP125, xP126, xP127, xP128, xP129, xP130, xP131, xP132, xP133, xP134, xP135, xP136, xP137, xP138, xP139, xP140, xP141, xP142, xP143, xP144, xP145, xP146, xP147, xP148, xP149, xP150, xP151, xP152, xP153, xP154, xP155, xP156, xP157, xP158, xP159, xP160, xP161, xP162, xP163, xP164, xP165, xP166, xP167, xP168, xP169, xP170, xP171, xP172, xP173, xP174, xP175, xP176, xP177, xP178, xP179, xP180, xP181, xP182, xP183, xP184, xP185, xP186, xP187, xP188, xP189, xP190, xP191, xP192, xP193, xP194, xP195, xP196, xP197, xP198, xP199, xP200, xP201, xP202, xP203, xP204, xP205, xP206, xP207, xP208, xP209, xP210, xP211, xP212, xP213, xP214, xP215, xP216, xP217, xP218, xP219, xP220, xP221, xP222, xP223, xP224, xP225, xP226, xP227, xP228, xP229, xP230, xP231, xP232, xP233, xP234, xP235, xP236, xP237, xP238, xP239, xP240, xP241, xP242, xP243, xP244, xP245, xP246, xP247] : List z_M).getD y (fun _ => z_dead)
def z_nl (y : Nat) : Nat := (z_tb y).2.2.1
def z_P (y : Nat) : Prop := ∀ (l : Launch) (G : z_G) (d : Nat) (C : z_O), z_HC l G d z_tb C → ∃ (bp : Nat → Nat) (ini : Bool), bp 0 = 0 ∧ plainName (z_tb y).1.cls = true ∧ (ini = true → (z_tb y).1.name = "<init>") ∧ z_SM (z_tb y).1.cls (z_tb y).2.1 (z_tb y).2.2.1 ini d G l C (z_tb y).2.2.2 bp (z_pg y)
theorem pg0 : z_pg 0 = xP0 := rfl
theorem pg1 : z_pg 1 = xP1 := rfl
theorem pg2 : z_pg 2 = xP2 := rfl
theorem pg3 : z_pg 3 = xP3 := rfl
theorem pg4 : z_pg 4 = xP4 := rfl
theorem pg5 : z_pg 5 = xP5 := rfl
theorem pg6 : z_pg 6 = xP6 := rfl
theorem pg7 : z_pg 7 = xP7 := rfl
theorem pg8 : z_pg 8 = xP8 := rfl
theorem pg9 : z_pg 9 = xP9 := rfl
theorem pg10 : z_pg 10 = xP10 := rfl
theorem pg11 : z_pg 11 = xP11 := rfl
theorem pg12 : z_pg 12 = xP12 := rfl
theorem pg13 : z_pg 13 = xP13 := rfl
theorem pg14 : z_pg 14 = xP14 := rfl
theorem pg15 : z_pg 15 = xP15 := rfl
theorem pg16 : z_pg 16 = xP16 := rfl
theorem pg17 : z_pg 17 = xP17 := rfl
theorem pg18 : z_pg 18 = xP18 := rfl
theorem pg19 : z_pg 19 = xP19 := rfl
theorem pg20 : z_pg 20 = xP20 := rfl
theorem pg21 : z_pg 21 = xP21 := rfl
theorem pg22 : z_pg 22 = xP22 := rfl
theorem pg23 : z_pg 23 = xP23 := rfl
theorem pg24 : z_pg 24 = xP24 := rfl
theorem pg25 : z_pg 25 = xP25 := rfl
theorem pg26 : z_pg 26 = xP26 := rfl
theorem pg27 : z_pg 27 = xP27 := rfl
theorem pg28 : z_pg 28 = xP28 := rfl
theorem pg29 : z_pg 29 = xP29 := rfl
theorem pg30 : z_pg 30 = xP30 := rfl
theorem pg31 : z_pg 31 = xP31 := rfl
theorem pg32 : z_pg 32 = xP32 := rfl
theorem pg33 : z_pg 33 = xP33 := rfl
theorem pg34 : z_pg 34 = xP34 := rfl
theorem pg35 : z_pg 35 = xP35 := rfl
theorem pg36 : z_pg 36 = xP36 := rfl
theorem pg37 : z_pg 37 = xP37 := rfl
theorem pg38 : z_pg 38 = xP38 := rfl
theorem pg39 : z_pg 39 = xP39 := rfl
theorem pg40 : z_pg 40 = xP40 := rfl
theorem pg41 : z_pg 41 = xP41 := rfl
theorem pg42 : z_pg 42 = xP42 := rfl
theorem pg43 : z_pg 43 = xP43 := rfl
theorem pg44 : z_pg 44 = xP44 := rfl
theorem pg45 : z_pg 45 = xP45 := rfl
theorem pg46 : z_pg 46 = xP46 := rfl
theorem pg47 : z_pg 47 = xP47 := rfl
theorem pg48 : z_pg 48 = xP48 := rfl
theorem pg49 : z_pg 49 = xP49 := rfl
theorem pg50 : z_pg 50 = xP50 := rfl
theorem pg51 : z_pg 51 = xP51 := rfl
theorem pg52 : z_pg 52 = xP52 := rfl
theorem pg53 : z_pg 53 = xP53 := rfl
theorem pg54 : z_pg 54 = xP54 := rfl
theorem pg55 : z_pg 55 = xP55 := rfl
theorem pg56 : z_pg 56 = xP56 := rfl
theorem pg57 : z_pg 57 = xP57 := rfl
theorem pg58 : z_pg 58 = xP58 := rfl
theorem pg59 : z_pg 59 = xP59 := rfl
theorem pg60 : z_pg 60 = xP60 := rfl
theorem pg61 : z_pg 61 = xP61 := rfl
theorem pg62 : z_pg 62 = xP62 := rfl
theorem pg63 : z_pg 63 = xP63 := rfl
theorem pg64 : z_pg 64 = xP64 := rfl
theorem pg65 : z_pg 65 = xP65 := rfl
theorem pg66 : z_pg 66 = xP66 := rfl
theorem pg67 : z_pg 67 = xP67 := rfl
theorem pg68 : z_pg 68 = xP68 := rfl
theorem pg69 : z_pg 69 = xP69 := rfl
theorem pg70 : z_pg 70 = xP70 := rfl
theorem pg71 : z_pg 71 = xP71 := rfl
theorem pg72 : z_pg 72 = xP72 := rfl
theorem pg73 : z_pg 73 = xP73 := rfl
theorem pg74 : z_pg 74 = xP74 := rfl
theorem pg75 : z_pg 75 = xP75 := rfl
theorem pg76 : z_pg 76 = xP76 := rfl
theorem pg77 : z_pg 77 = xP77 := rfl
theorem pg78 : z_pg 78 = xP78 := rfl
theorem pg79 : z_pg 79 = xP79 := rfl
theorem pg80 : z_pg 80 = xP80 := rfl
theorem pg81 : z_pg 81 = xP81 := rfl
theorem pg82 : z_pg 82 = xP82 := rfl
theorem pg83 : z_pg 83 = xP83 := rfl
theorem pg84 : z_pg 84 = xP84 := rfl
theorem pg85 : z_pg 85 = xP85 := rfl
theorem pg86 : z_pg 86 = xP86 := rfl
theorem pg87 : z_pg 87 = xP87 := rfl
theorem pg88 : z_pg 88 = xP88 := rfl
theorem pg89 : z_pg 89 = xP89 := rfl
theorem pg90 : z_pg 90 = xP90 := rfl
theorem pg91 : z_pg 91 = xP91 := rfl
theorem pg92 : z_pg 92 = xP92 := rfl
theorem pg93 : z_pg 93 = xP93 := rfl
theorem pg94 : z_pg 94 = xP94 := rfl
theorem pg95 : z_pg 95 = xP95 := rfl
theorem pg96 : z_pg 96 = xP96 := rfl
theorem pg97 : z_pg 97 = xP97 := rfl
theorem pg98 : z_pg 98 = xP98 := rfl
theorem pg99 : z_pg 99 = xP99 := rfl
theorem pg100 : z_pg 100 = xP100 := rfl
theorem pg101 : z_pg 101 = xP101 := rfl
theorem pg102 : z_pg 102 = xP102 := rfl
theorem pg103 : z_pg 103 = xP103 := rfl
theorem pg104 : z_pg 104 = xP104 := rfl
theorem pg105 : z_pg 105 = xP105 := rfl
theorem pg106 : z_pg 106 = xP106 := rfl
theorem pg107 : z_pg 107 = xP107 := rfl
theorem pg108 : z_pg 108 = xP108 := rfl
theorem pg109 : z_pg 109 = xP109 := rfl
theorem pg110 : z_pg 110 = xP110 := rfl
theorem pg111 : z_pg 111 = xP111 := rfl
theorem pg112 : z_pg 112 = xP112 := rfl
theorem pg113 : z_pg 113 = xP113 := rfl
theorem pg114 : z_pg 114 = xP114 := rfl
theorem pg115 : z_pg 115 = xP115 := rfl
theorem pg116 : z_pg 116 = xP116 := rfl
theorem pg117 : z_pg 117 = xP117 := rfl
theorem pg118 : z_pg 118 = xP118 := rfl
theorem pg119 : z_pg 119 = xP119 := rfl
theorem pg120 : z_pg 120 = xP120 := rfl
theorem pg121 : z_pg 121 = xP121 := rfl
theorem pg122 : z_pg 122 = xP122 := rfl
theorem pg123 : z_pg 123 = xP123 := rfl
theorem pg124 : z_pg 124 = xP124 := rfl
theorem pg125 : z_pg 125 = xP125 := rfl
theorem pg126 : z_pg 126 = xP126 := rfl
theorem pg127 : z_pg 127 = xP127 := rfl
theorem pg128 : z_pg 128 = xP128 := rfl
theorem pg129 : z_pg 129 = xP129 := rfl
theorem pg130 : z_pg 130 = xP130 := rfl
theorem pg131 : z_pg 131 = xP131 := rfl
theorem pg132 : z_pg 132 = xP132 := rfl
theorem pg133 : z_pg 133 = xP133 := rfl
theorem pg134 : z_pg 134 = xP134 := rfl
theorem pg135 : z_pg 135 = xP135 := rfl
theorem pg136 : z_pg 136 = xP136 := rfl
theorem pg137 : z_pg 137 = xP137 := rfl
theorem pg138 : z_pg 138 = xP138 := rfl
theorem pg139 : z_pg 139 = xP139 := rfl
theorem pg140 : z_pg 140 = xP140 := rfl
theorem pg141 : z_pg 141 = xP141 := rfl
theorem pg142 : z_pg 142 = xP142 := rfl
theorem pg143 : z_pg 143 = xP143 := rfl
theorem pg144 : z_pg 144 = xP144 := rfl
theorem pg145 : z_pg 145 = xP145 := rfl
theorem pg146 : z_pg 146 = xP146 := rfl
theorem pg147 : z_pg 147 = xP147 := rfl
theorem pg148 : z_pg 148 = xP148 := rfl
theorem pg149 : z_pg 149 = xP149 := rfl
theorem pg150 : z_pg 150 = xP150 := rfl
theorem pg151 : z_pg 151 = xP151 := rfl
theorem pg152 : z_pg 152 = xP152 := rfl
theorem pg153 : z_pg 153 = xP153 := rfl
theorem pg154 : z_pg 154 = xP154 := rfl
theorem pg155 : z_pg 155 = xP155 := rfl
theorem pg156 : z_pg 156 = xP156 := rfl
theorem pg157 : z_pg 157 = xP157 := rfl
theorem pg158 : z_pg 158 = xP158 := rfl
theorem pg159 : z_pg 159 = xP159 := rfl
theorem pg160 : z_pg 160 = xP160 := rfl
theorem pg161 : z_pg 161 = xP161 := rfl
theorem pg162 : z_pg 162 = xP162 := rfl
theorem pg163 : z_pg 163 = xP163 := rfl
theorem pg164 : z_pg 164 = xP164 := rfl
theorem pg165 : z_pg 165 = xP165 := rfl
theorem pg166 : z_pg 166 = xP166 := rfl
theorem pg167 : z_pg 167 = xP167 := rfl
theorem pg168 : z_pg 168 = xP168 := rfl
theorem pg169 : z_pg 169 = xP169 := rfl
theorem pg170 : z_pg 170 = xP170 := rfl
theorem pg171 : z_pg 171 = xP171 := rfl
theorem pg172 : z_pg 172 = xP172 := rfl
theorem pg173 : z_pg 173 = xP173 := rfl
theorem pg174 : z_pg 174 = xP174 := rfl
theorem pg175 : z_pg 175 = xP175 := rfl
theorem pg176 : z_pg 176 = xP176 := rfl
theorem pg177 : z_pg 177 = xP177 := rfl
theorem pg178 : z_pg 178 = xP178 := rfl
theorem pg179 : z_pg 179 = xP179 := rfl
theorem pg180 : z_pg 180 = xP180 := rfl
theorem pg181 : z_pg 181 = xP181 := rfl
theorem pg182 : z_pg 182 = xP182 := rfl
theorem pg183 : z_pg 183 = xP183 := rfl
theorem pg184 : z_pg 184 = xP184 := rfl
theorem pg185 : z_pg 185 = xP185 := rfl
theorem pg186 : z_pg 186 = xP186 := rfl
theorem pg187 : z_pg 187 = xP187 := rfl
theorem pg188 : z_pg 188 = xP188 := rfl
theorem pg189 : z_pg 189 = xP189 := rfl
theorem pg190 : z_pg 190 = xP190 := rfl
theorem pg191 : z_pg 191 = xP191 := rfl
theorem pg192 : z_pg 192 = xP192 := rfl
theorem pg193 : z_pg 193 = xP193 := rfl
theorem pg194 : z_pg 194 = xP194 := rfl
theorem pg195 : z_pg 195 = xP195 := rfl
theorem pg196 : z_pg 196 = xP196 := rfl
theorem pg197 : z_pg 197 = xP197 := rfl
theorem pg198 : z_pg 198 = xP198 := rfl
theorem pg199 : z_pg 199 = xP199 := rfl
theorem pg200 : z_pg 200 = xP200 := rfl
theorem pg201 : z_pg 201 = xP201 := rfl
theorem pg202 : z_pg 202 = xP202 := rfl
theorem pg203 : z_pg 203 = xP203 := rfl
theorem pg204 : z_pg 204 = xP204 := rfl
theorem pg205 : z_pg 205 = xP205 := rfl
theorem pg206 : z_pg 206 = xP206 := rfl
theorem pg207 : z_pg 207 = xP207 := rfl
theorem pg208 : z_pg 208 = xP208 := rfl
theorem pg209 : z_pg 209 = xP209 := rfl
theorem pg210 : z_pg 210 = xP210 := rfl
theorem pg211 : z_pg 211 = xP211 := rfl
theorem pg212 : z_pg 212 = xP212 := rfl
theorem pg213 : z_pg 213 = xP213 := rfl
theorem pg214 : z_pg 214 = xP214 := rfl
theorem pg215 : z_pg 215 = xP215 := rfl
theorem pg216 : z_pg 216 = xP216 := rfl
theorem pg217 : z_pg 217 = xP217 := rfl
theorem pg218 : z_pg 218 = xP218 := rfl
theorem pg219 : z_pg 219 = xP219 := rfl
theorem pg220 : z_pg 220 = xP220 := rfl
theorem pg221 : z_pg 221 = xP221 := rfl
theorem pg222 : z_pg 222 = xP222 := rfl
theorem pg223 : z_pg 223 = xP223 := rfl
theorem pg224 : z_pg 224 = xP224 := rfl
theorem pg225 : z_pg 225 = xP225 := rfl
theorem pg226 : z_pg 226 = xP226 := rfl
theorem pg227 : z_pg 227 = xP227 := rfl
theorem pg228 : z_pg 228 = xP228 := rfl
theorem pg229 : z_pg 229 = xP229 := rfl
theorem pg230 : z_pg 230 = xP230 := rfl
theorem pg231 : z_pg 231 = xP231 := rfl
theorem pg232 : z_pg 232 = xP232 := rfl
theorem pg233 : z_pg 233 = xP233 := rfl
theorem pg234 : z_pg 234 = xP234 := rfl
theorem pg235 : z_pg 235 = xP235 := rfl
theorem pg236 : z_pg 236 = xP236 := rfl
theorem pg237 : z_pg 237 = xP237 := rfl
theorem pg238 : z_pg 238 = xP238 := rfl
theorem pg239 : z_pg 239 = xP239 := rfl
theorem pg240 : z_pg 240 = xP240 := rfl
theorem pg241 : z_pg 241 = xP241 := rfl
theorem pg242 : z_pg 242 = xP242 := rfl
theorem pg243 : z_pg 243 = xP243 := rfl
theorem pg244 : z_pg 244 = xP244 := rfl
theorem pg245 : z_pg 245 = xP245 := rfl
theorem pg246 : z_pg 246 = xP246 := rfl
theorem pg247 : z_pg 247 = xP247 := rfl
theorem xs0 : z_P 0 := by
  intro l G d C hC
  rw [zt0, pg0]
  exact ⟨xp0, false, rfl, (by decide +kernel), (fun h => by cases h), xm0 hC⟩
theorem xs1 : z_P 1 := by
  intro l G d C hC
  rw [zt1, pg1]
  exact ⟨xp1, true, rfl, (by decide +kernel), (fun _ => rfl), xm1 hC⟩
theorem xs2 : z_P 2 := by
  intro l G d C hC
  rw [zt2, pg2]
  exact ⟨xp2, false, rfl, (by decide +kernel), (fun h => by cases h), xm2 hC⟩
theorem xs3 : z_P 3 := by
  intro l G d C hC
  rw [zt3, pg3]
  exact ⟨xp3, false, rfl, (by decide +kernel), (fun h => by cases h), xm3 hC⟩
theorem xs4 : z_P 4 := by
  intro l G d C hC
  rw [zt4, pg4]
  exact ⟨xp4, false, rfl, (by decide +kernel), (fun h => by cases h), xm4 hC⟩
theorem xs5 : z_P 5 := by
  intro l G d C hC
  rw [zt5, pg5]
  exact ⟨xp5, false, rfl, (by decide +kernel), (fun h => by cases h), xm5 hC⟩
theorem xs6 : z_P 6 := by
  intro l G d C hC
  rw [zt6, pg6]
  exact ⟨xp6, false, rfl, (by decide +kernel), (fun h => by cases h), xm6 hC⟩
theorem xs7 : z_P 7 := by
  intro l G d C hC
  rw [zt7, pg7]
  exact ⟨xp7, false, rfl, (by decide +kernel), (fun h => by cases h), xm7 hC⟩
theorem xs8 : z_P 8 := by
  intro l G d C hC
  rw [zt8, pg8]
  exact ⟨xp8, false, rfl, (by decide +kernel), (fun h => by cases h), xm8 hC⟩
theorem xs9 : z_P 9 := by
  intro l G d C hC
  rw [zt9, pg9]
  exact ⟨xp9, false, rfl, (by decide +kernel), (fun h => by cases h), xm9 hC⟩
theorem xs10 : z_P 10 := by
  intro l G d C hC
  rw [zt10, pg10]
  exact ⟨xp10, false, rfl, (by decide +kernel), (fun h => by cases h), xm10 hC⟩
theorem xs11 : z_P 11 := by
  intro l G d C hC
  rw [zt11, pg11]
  exact ⟨xp11, false, rfl, (by decide +kernel), (fun h => by cases h), xm11 hC⟩
theorem xs12 : z_P 12 := by
  intro l G d C hC
  rw [zt12, pg12]
  exact ⟨xp12, false, rfl, (by decide +kernel), (fun h => by cases h), xm12 hC⟩
theorem xs13 : z_P 13 := by
  intro l G d C hC
  rw [zt13, pg13]
  exact ⟨xp13, false, rfl, (by decide +kernel), (fun h => by cases h), xm13 hC⟩
theorem xs14 : z_P 14 := by
  intro l G d C hC
  rw [zt14, pg14]
  exact ⟨xp14, false, rfl, (by decide +kernel), (fun h => by cases h), xm14 hC⟩
theorem xs15 : z_P 15 := by
  intro l G d C hC
  rw [zt15, pg15]
  exact ⟨xp15, false, rfl, (by decide +kernel), (fun h => by cases h), xm15 hC⟩
theorem xs16 : z_P 16 := by
  intro l G d C hC
  rw [zt16, pg16]
  exact ⟨xp16, false, rfl, (by decide +kernel), (fun h => by cases h), xm16 hC⟩
theorem xs17 : z_P 17 := by
  intro l G d C hC
  rw [zt17, pg17]
  exact ⟨xp17, false, rfl, (by decide +kernel), (fun h => by cases h), xm17 hC⟩
theorem xs18 : z_P 18 := by
  intro l G d C hC
  rw [zt18, pg18]
  exact ⟨xp18, false, rfl, (by decide +kernel), (fun h => by cases h), xm18 hC⟩
theorem xs19 : z_P 19 := by
  intro l G d C hC
  rw [zt19, pg19]
  exact ⟨xp19, false, rfl, (by decide +kernel), (fun h => by cases h), xm19 hC⟩
theorem xs20 : z_P 20 := by
  intro l G d C hC
  rw [zt20, pg20]
  exact ⟨xp20, false, rfl, (by decide +kernel), (fun h => by cases h), xm20 hC⟩
theorem xs21 : z_P 21 := by
  intro l G d C hC
  rw [zt21, pg21]
  exact ⟨xp21, false, rfl, (by decide +kernel), (fun h => by cases h), xm21 hC⟩
theorem xs22 : z_P 22 := by
  intro l G d C hC
  rw [zt22, pg22]
  exact ⟨xp22, false, rfl, (by decide +kernel), (fun h => by cases h), xm22 hC⟩
theorem xs23 : z_P 23 := by
  intro l G d C hC
  rw [zt23, pg23]
  exact ⟨xp23, false, rfl, (by decide +kernel), (fun h => by cases h), xm23 hC⟩
theorem xs24 : z_P 24 := by
  intro l G d C hC
  rw [zt24, pg24]
  exact ⟨xp24, false, rfl, (by decide +kernel), (fun h => by cases h), xm24 hC⟩
theorem xs25 : z_P 25 := by
  intro l G d C hC
  rw [zt25, pg25]
  exact ⟨xp25, false, rfl, (by decide +kernel), (fun h => by cases h), xm25 hC⟩
theorem xs26 : z_P 26 := by
  intro l G d C hC
  rw [zt26, pg26]
  exact ⟨xp26, false, rfl, (by decide +kernel), (fun h => by cases h), xm26 hC⟩
theorem xs27 : z_P 27 := by
  intro l G d C hC
  rw [zt27, pg27]
  exact ⟨xp27, false, rfl, (by decide +kernel), (fun h => by cases h), xm27 hC⟩
theorem xs28 : z_P 28 := by
  intro l G d C hC
  rw [zt28, pg28]
  exact ⟨xp28, false, rfl, (by decide +kernel), (fun h => by cases h), xm28 hC⟩
theorem xs29 : z_P 29 := by
  intro l G d C hC
  rw [zt29, pg29]
  exact ⟨xp29, false, rfl, (by decide +kernel), (fun h => by cases h), xm29 hC⟩
theorem xs30 : z_P 30 := by
  intro l G d C hC
  rw [zt30, pg30]
  exact ⟨xp30, false, rfl, (by decide +kernel), (fun h => by cases h), xm30 hC⟩
theorem xs31 : z_P 31 := by
  intro l G d C hC
  rw [zt31, pg31]
  exact ⟨xp31, false, rfl, (by decide +kernel), (fun h => by cases h), xm31 hC⟩
theorem xs32 : z_P 32 := by
  intro l G d C hC
  rw [zt32, pg32]
  exact ⟨xp32, false, rfl, (by decide +kernel), (fun h => by cases h), xm32 hC⟩
theorem xs33 : z_P 33 := by
  intro l G d C hC
  rw [zt33, pg33]
  exact ⟨xp33, false, rfl, (by decide +kernel), (fun h => by cases h), xm33 hC⟩
theorem xs34 : z_P 34 := by
  intro l G d C hC
  rw [zt34, pg34]
  exact ⟨xp34, false, rfl, (by decide +kernel), (fun h => by cases h), xm34 hC⟩
theorem xs35 : z_P 35 := by
  intro l G d C hC
  rw [zt35, pg35]
  exact ⟨xp35, false, rfl, (by decide +kernel), (fun h => by cases h), xm35 hC⟩
theorem xs36 : z_P 36 := by
  intro l G d C hC
  rw [zt36, pg36]
  exact ⟨xp36, false, rfl, (by decide +kernel), (fun h => by cases h), xm36 hC⟩
theorem xs37 : z_P 37 := by
  intro l G d C hC
  rw [zt37, pg37]
  exact ⟨xp37, false, rfl, (by decide +kernel), (fun h => by cases h), xm37 hC⟩
theorem xs38 : z_P 38 := by
  intro l G d C hC
  rw [zt38, pg38]
  exact ⟨xp38, false, rfl, (by decide +kernel), (fun h => by cases h), xm38 hC⟩
theorem xs39 : z_P 39 := by
  intro l G d C hC
  rw [zt39, pg39]
  exact ⟨xp39, false, rfl, (by decide +kernel), (fun h => by cases h), xm39 hC⟩
theorem xs40 : z_P 40 := by
  intro l G d C hC
  rw [zt40, pg40]
  exact ⟨xp40, false, rfl, (by decide +kernel), (fun h => by cases h), xm40 hC⟩
theorem xs41 : z_P 41 := by
  intro l G d C hC
  rw [zt41, pg41]
  exact ⟨xp41, false, rfl, (by decide +kernel), (fun h => by cases h), xm41 hC⟩
theorem xs42 : z_P 42 := by
  intro l G d C hC
  rw [zt42, pg42]
  exact ⟨xp42, false, rfl, (by decide +kernel), (fun h => by cases h), xm42 hC⟩
theorem xs43 : z_P 43 := by
  intro l G d C hC
  rw [zt43, pg43]
  exact ⟨xp43, false, rfl, (by decide +kernel), (fun h => by cases h), xm43 hC⟩
theorem xs44 : z_P 44 := by
  intro l G d C hC
  rw [zt44, pg44]
  exact ⟨xp44, false, rfl, (by decide +kernel), (fun h => by cases h), xm44 hC⟩
theorem xs45 : z_P 45 := by
  intro l G d C hC
  rw [zt45, pg45]
  exact ⟨xp45, false, rfl, (by decide +kernel), (fun h => by cases h), xm45 hC⟩
theorem xs46 : z_P 46 := by
  intro l G d C hC
  rw [zt46, pg46]
  exact ⟨xp46, false, rfl, (by decide +kernel), (fun h => by cases h), xm46 hC⟩
theorem xs47 : z_P 47 := by
  intro l G d C hC
  rw [zt47, pg47]
  exact ⟨xp47, false, rfl, (by decide +kernel), (fun h => by cases h), xm47 hC⟩
theorem xs48 : z_P 48 := by
  intro l G d C hC
  rw [zt48, pg48]
  exact ⟨xp48, false, rfl, (by decide +kernel), (fun h => by cases h), xm48 hC⟩
theorem xs49 : z_P 49 := by
  intro l G d C hC
  rw [zt49, pg49]
  exact ⟨xp49, false, rfl, (by decide +kernel), (fun h => by cases h), xm49 hC⟩
theorem xs50 : z_P 50 := by
  intro l G d C hC
  rw [zt50, pg50]
  exact ⟨xp50, false, rfl, (by decide +kernel), (fun h => by cases h), xm50 hC⟩
theorem xs51 : z_P 51 := by
  intro l G d C hC
  rw [zt51, pg51]
  exact ⟨xp51, false, rfl, (by decide +kernel), (fun h => by cases h), xm51 hC⟩
theorem xs52 : z_P 52 := by
  intro l G d C hC
  rw [zt52, pg52]
  exact ⟨xp52, false, rfl, (by decide +kernel), (fun h => by cases h), xm52 hC⟩
theorem xs53 : z_P 53 := by
  intro l G d C hC
  rw [zt53, pg53]
  exact ⟨xp53, false, rfl, (by decide +kernel), (fun h => by cases h), xm53 hC⟩
theorem xs54 : z_P 54 := by
  intro l G d C hC
  rw [zt54, pg54]
  exact ⟨xp54, false, rfl, (by decide +kernel), (fun h => by cases h), xm54 hC⟩
theorem xs55 : z_P 55 := by
  intro l G d C hC
  rw [zt55, pg55]
  exact ⟨xp55, false, rfl, (by decide +kernel), (fun h => by cases h), xm55 hC⟩
theorem xs56 : z_P 56 := by
  intro l G d C hC
  rw [zt56, pg56]
  exact ⟨xp56, false, rfl, (by decide +kernel), (fun h => by cases h), xm56 hC⟩
theorem xs57 : z_P 57 := by
  intro l G d C hC
  rw [zt57, pg57]
  exact ⟨xp57, false, rfl, (by decide +kernel), (fun h => by cases h), xm57 hC⟩
theorem xs58 : z_P 58 := by
  intro l G d C hC
  rw [zt58, pg58]
  exact ⟨xp58, false, rfl, (by decide +kernel), (fun h => by cases h), xm58 hC⟩
theorem xs59 : z_P 59 := by
  intro l G d C hC
  rw [zt59, pg59]
  exact ⟨xp59, false, rfl, (by decide +kernel), (fun h => by cases h), xm59 hC⟩
theorem xs60 : z_P 60 := by
  intro l G d C hC
  rw [zt60, pg60]
  exact ⟨xp60, false, rfl, (by decide +kernel), (fun h => by cases h), xm60 hC⟩
theorem xs61 : z_P 61 := by
  intro l G d C hC
  rw [zt61, pg61]
  exact ⟨xp61, false, rfl, (by decide +kernel), (fun h => by cases h), xm61 hC⟩
theorem xs62 : z_P 62 := by
  intro l G d C hC
  rw [zt62, pg62]
  exact ⟨xp62, false, rfl, (by decide +kernel), (fun h => by cases h), xm62 hC⟩
theorem xs63 : z_P 63 := by
  intro l G d C hC
  rw [zt63, pg63]
  exact ⟨xp63, false, rfl, (by decide +kernel), (fun h => by cases h), xm63 hC⟩
theorem xs64 : z_P 64 := by
  intro l G d C hC
  rw [zt64, pg64]
  exact ⟨xp64, false, rfl, (by decide +kernel), (fun h => by cases h), xm64 hC⟩
theorem xs65 : z_P 65 := by
  intro l G d C hC
  rw [zt65, pg65]
  exact ⟨xp65, false, rfl, (by decide +kernel), (fun h => by cases h), xm65 hC⟩
theorem xs66 : z_P 66 := by
  intro l G d C hC
  rw [zt66, pg66]
  exact ⟨xp66, false, rfl, (by decide +kernel), (fun h => by cases h), xm66 hC⟩
theorem xs67 : z_P 67 := by
  intro l G d C hC
  rw [zt67, pg67]
  exact ⟨xp67, false, rfl, (by decide +kernel), (fun h => by cases h), xm67 hC⟩
theorem xs68 : z_P 68 := by
  intro l G d C hC
  rw [zt68, pg68]
  exact ⟨xp68, false, rfl, (by decide +kernel), (fun h => by cases h), xm68 hC⟩
theorem xs69 : z_P 69 := by
  intro l G d C hC
  rw [zt69, pg69]
  exact ⟨xp69, false, rfl, (by decide +kernel), (fun h => by cases h), xm69 hC⟩
theorem xs70 : z_P 70 := by
  intro l G d C hC
  rw [zt70, pg70]
  exact ⟨xp70, false, rfl, (by decide +kernel), (fun h => by cases h), xm70 hC⟩
theorem xs71 : z_P 71 := by
  intro l G d C hC
  rw [zt71, pg71]
  exact ⟨xp71, false, rfl, (by decide +kernel), (fun h => by cases h), xm71 hC⟩
theorem xs72 : z_P 72 := by
  intro l G d C hC
  rw [zt72, pg72]
  exact ⟨xp72, false, rfl, (by decide +kernel), (fun h => by cases h), xm72 hC⟩
theorem xs73 : z_P 73 := by
  intro l G d C hC
  rw [zt73, pg73]
  exact ⟨xp73, false, rfl, (by decide +kernel), (fun h => by cases h), xm73 hC⟩
theorem xs74 : z_P 74 := by
  intro l G d C hC
  rw [zt74, pg74]
  exact ⟨xp74, false, rfl, (by decide +kernel), (fun h => by cases h), xm74 hC⟩
theorem xs75 : z_P 75 := by
  intro l G d C hC
  rw [zt75, pg75]
  exact ⟨xp75, false, rfl, (by decide +kernel), (fun h => by cases h), xm75 hC⟩
theorem xs76 : z_P 76 := by
  intro l G d C hC
  rw [zt76, pg76]
  exact ⟨xp76, false, rfl, (by decide +kernel), (fun h => by cases h), xm76 hC⟩
theorem xs77 : z_P 77 := by
  intro l G d C hC
  rw [zt77, pg77]
  exact ⟨xp77, false, rfl, (by decide +kernel), (fun h => by cases h), xm77 hC⟩
theorem xs78 : z_P 78 := by
  intro l G d C hC
  rw [zt78, pg78]
  exact ⟨xp78, false, rfl, (by decide +kernel), (fun h => by cases h), xm78 hC⟩
theorem xs79 : z_P 79 := by
  intro l G d C hC
  rw [zt79, pg79]
  exact ⟨xp79, false, rfl, (by decide +kernel), (fun h => by cases h), xm79 hC⟩
theorem xs80 : z_P 80 := by
  intro l G d C hC
  rw [zt80, pg80]
  exact ⟨xp80, false, rfl, (by decide +kernel), (fun h => by cases h), xm80 hC⟩
theorem xs81 : z_P 81 := by
  intro l G d C hC
  rw [zt81, pg81]
  exact ⟨xp81, false, rfl, (by decide +kernel), (fun h => by cases h), xm81 hC⟩
theorem xs82 : z_P 82 := by
  intro l G d C hC
  rw [zt82, pg82]
  exact ⟨xp82, false, rfl, (by decide +kernel), (fun h => by cases h), xm82 hC⟩
theorem xs83 : z_P 83 := by
  intro l G d C hC
  rw [zt83, pg83]
  exact ⟨xp83, false, rfl, (by decide +kernel), (fun h => by cases h), xm83 hC⟩
theorem xs84 : z_P 84 := by
  intro l G d C hC
  rw [zt84, pg84]
  exact ⟨xp84, true, rfl, (by decide +kernel), (fun _ => rfl), xm84 hC⟩
theorem xs85 : z_P 85 := by
  intro l G d C hC
  rw [zt85, pg85]
  exact ⟨xp85, false, rfl, (by decide +kernel), (fun h => by cases h), xm85 hC⟩
theorem xs86 : z_P 86 := by
  intro l G d C hC
  rw [zt86, pg86]
  exact ⟨xp86, false, rfl, (by decide +kernel), (fun h => by cases h), xm86 hC⟩
theorem xs87 : z_P 87 := by
  intro l G d C hC
  rw [zt87, pg87]
  exact ⟨xp87, false, rfl, (by decide +kernel), (fun h => by cases h), xm87 hC⟩
theorem xs88 : z_P 88 := by
  intro l G d C hC
  rw [zt88, pg88]
  exact ⟨xp88, false, rfl, (by decide +kernel), (fun h => by cases h), xm88 hC⟩
theorem xs89 : z_P 89 := by
  intro l G d C hC
  rw [zt89, pg89]
  exact ⟨xp89, false, rfl, (by decide +kernel), (fun h => by cases h), xm89 hC⟩
theorem xs90 : z_P 90 := by
  intro l G d C hC
  rw [zt90, pg90]
  exact ⟨xp90, false, rfl, (by decide +kernel), (fun h => by cases h), xm90 hC⟩
theorem xs91 : z_P 91 := by
  intro l G d C hC
  rw [zt91, pg91]
  exact ⟨xp91, false, rfl, (by decide +kernel), (fun h => by cases h), xm91 hC⟩
theorem xs92 : z_P 92 := by
  intro l G d C hC
  rw [zt92, pg92]
  exact ⟨xp92, false, rfl, (by decide +kernel), (fun h => by cases h), xm92 hC⟩
theorem xs93 : z_P 93 := by
  intro l G d C hC
  rw [zt93, pg93]
  exact ⟨xp93, false, rfl, (by decide +kernel), (fun h => by cases h), xm93 hC⟩
theorem xs94 : z_P 94 := by
  intro l G d C hC
  rw [zt94, pg94]
  exact ⟨xp94, false, rfl, (by decide +kernel), (fun h => by cases h), xm94 hC⟩
theorem xs95 : z_P 95 := by
  intro l G d C hC
  rw [zt95, pg95]
  exact ⟨xp95, false, rfl, (by decide +kernel), (fun h => by cases h), xm95 hC⟩
theorem xs96 : z_P 96 := by
  intro l G d C hC
  rw [zt96, pg96]
  exact ⟨xp96, false, rfl, (by decide +kernel), (fun h => by cases h), xm96 hC⟩
theorem xs97 : z_P 97 := by
  intro l G d C hC
  rw [zt97, pg97]
  exact ⟨xp97, false, rfl, (by decide +kernel), (fun h => by cases h), xm97 hC⟩
theorem xs98 : z_P 98 := by
  intro l G d C hC
  rw [zt98, pg98]
  exact ⟨xp98, false, rfl, (by decide +kernel), (fun h => by cases h), xm98 hC⟩
theorem xs99 : z_P 99 := by
  intro l G d C hC
  rw [zt99, pg99]
  exact ⟨xp99, false, rfl, (by decide +kernel), (fun h => by cases h), xm99 hC⟩
theorem xs100 : z_P 100 := by
  intro l G d C hC
  rw [zt100, pg100]
  exact ⟨xp100, false, rfl, (by decide +kernel), (fun h => by cases h), xm100 hC⟩
theorem xs101 : z_P 101 := by
  intro l G d C hC
  rw [zt101, pg101]
  exact ⟨xp101, false, rfl, (by decide +kernel), (fun h => by cases h), xm101 hC⟩
theorem xs102 : z_P 102 := by
  intro l G d C hC
  rw [zt102, pg102]
  exact ⟨xp102, false, rfl, (by decide +kernel), (fun h => by cases h), xm102 hC⟩
theorem xs103 : z_P 103 := by
  intro l G d C hC
  rw [zt103, pg103]
  exact ⟨xp103, false, rfl, (by decide +kernel), (fun h => by cases h), xm103 hC⟩
theorem xs104 : z_P 104 := by
  intro l G d C hC
  rw [zt104, pg104]
  exact ⟨xp104, false, rfl, (by decide +kernel), (fun h => by cases h), xm104 hC⟩
theorem xs105 : z_P 105 := by
  intro l G d C hC
  rw [zt105, pg105]
  exact ⟨xp105, false, rfl, (by decide +kernel), (fun h => by cases h), xm105 hC⟩
theorem xs106 : z_P 106 := by
  intro l G d C hC
  rw [zt106, pg106]
  exact ⟨xp106, false, rfl, (by decide +kernel), (fun h => by cases h), xm106 hC⟩
theorem xs107 : z_P 107 := by
  intro l G d C hC
  rw [zt107, pg107]
  exact ⟨xp107, false, rfl, (by decide +kernel), (fun h => by cases h), xm107 hC⟩
theorem xs108 : z_P 108 := by
  intro l G d C hC
  rw [zt108, pg108]
  exact ⟨xp108, false, rfl, (by decide +kernel), (fun h => by cases h), xm108 hC⟩
theorem xs109 : z_P 109 := by
  intro l G d C hC
  rw [zt109, pg109]
  exact ⟨xp109, false, rfl, (by decide +kernel), (fun h => by cases h), xm109 hC⟩
theorem xs110 : z_P 110 := by
  intro l G d C hC
  rw [zt110, pg110]
  exact ⟨xp110, false, rfl, (by decide +kernel), (fun h => by cases h), xm110 hC⟩
theorem xs111 : z_P 111 := by
  intro l G d C hC
  rw [zt111, pg111]
  exact ⟨xp111, false, rfl, (by decide +kernel), (fun h => by cases h), xm111 hC⟩
theorem xs112 : z_P 112 := by
  intro l G d C hC
  rw [zt112, pg112]
  exact ⟨xp112, false, rfl, (by decide +kernel), (fun h => by cases h), xm112 hC⟩
theorem xs113 : z_P 113 := by
  intro l G d C hC
  rw [zt113, pg113]
  exact ⟨xp113, false, rfl, (by decide +kernel), (fun h => by cases h), xm113 hC⟩
theorem xs114 : z_P 114 := by
  intro l G d C hC
  rw [zt114, pg114]
  exact ⟨xp114, false, rfl, (by decide +kernel), (fun h => by cases h), xm114 hC⟩
theorem xs115 : z_P 115 := by
  intro l G d C hC
  rw [zt115, pg115]
  exact ⟨xp115, false, rfl, (by decide +kernel), (fun h => by cases h), xm115 hC⟩
theorem xs116 : z_P 116 := by
  intro l G d C hC
  rw [zt116, pg116]
  exact ⟨xp116, false, rfl, (by decide +kernel), (fun h => by cases h), xm116 hC⟩
theorem xs117 : z_P 117 := by
  intro l G d C hC
  rw [zt117, pg117]
  exact ⟨xp117, false, rfl, (by decide +kernel), (fun h => by cases h), xm117 hC⟩
theorem xs118 : z_P 118 := by
  intro l G d C hC
  rw [zt118, pg118]
  exact ⟨xp118, false, rfl, (by decide +kernel), (fun h => by cases h), xm118 hC⟩
theorem xs119 : z_P 119 := by
  intro l G d C hC
  rw [zt119, pg119]
  exact ⟨xp119, false, rfl, (by decide +kernel), (fun h => by cases h), xm119 hC⟩
theorem xs120 : z_P 120 := by
  intro l G d C hC
  rw [zt120, pg120]
  exact ⟨xp120, false, rfl, (by decide +kernel), (fun h => by cases h), xm120 hC⟩
theorem xs121 : z_P 121 := by
  intro l G d C hC
  rw [zt121, pg121]
  exact ⟨xp121, false, rfl, (by decide +kernel), (fun h => by cases h), xm121 hC⟩
theorem xs122 : z_P 122 := by
  intro l G d C hC
  rw [zt122, pg122]
  exact ⟨xp122, false, rfl, (by decide +kernel), (fun h => by cases h), xm122 hC⟩
theorem xs123 : z_P 123 := by
  intro l G d C hC
  rw [zt123, pg123]
  exact ⟨xp123, false, rfl, (by decide +kernel), (fun h => by cases h), xm123 hC⟩
theorem xs124 : z_P 124 := by
  intro l G d C hC
  rw [zt124, pg124]
  exact ⟨xp124, false, rfl, (by decide +kernel), (fun h => by cases h), xm124 hC⟩
theorem xs125 : z_P 125 := by
  intro l G d C hC
  rw [zt125, pg125]
  exact ⟨xp125, false, rfl, (by decide +kernel), (fun h => by cases h), xm125 hC⟩
theorem xs126 : z_P 126 := by
  intro l G d C hC
  rw [zt126, pg126]
  exact ⟨xp126, false, rfl, (by decide +kernel), (fun h => by cases h), xm126 hC⟩
theorem xs127 : z_P 127 := by
  intro l G d C hC
  rw [zt127, pg127]
  exact ⟨xp127, false, rfl, (by decide +kernel), (fun h => by cases h), xm127 hC⟩
theorem xs128 : z_P 128 := by
  intro l G d C hC
  rw [zt128, pg128]
  exact ⟨xp128, false, rfl, (by decide +kernel), (fun h => by cases h), xm128 hC⟩
theorem xs129 : z_P 129 := by
  intro l G d C hC
  rw [zt129, pg129]
  exact ⟨xp129, false, rfl, (by decide +kernel), (fun h => by cases h), xm129 hC⟩
theorem xs130 : z_P 130 := by
  intro l G d C hC
  rw [zt130, pg130]
  exact ⟨xp130, false, rfl, (by decide +kernel), (fun h => by cases h), xm130 hC⟩
theorem xs131 : z_P 131 := by
  intro l G d C hC
  rw [zt131, pg131]
  exact ⟨xp131, false, rfl, (by decide +kernel), (fun h => by cases h), xm131 hC⟩
theorem xs132 : z_P 132 := by
  intro l G d C hC
  rw [zt132, pg132]
  exact ⟨xp132, false, rfl, (by decide +kernel), (fun h => by cases h), xm132 hC⟩
theorem xs133 : z_P 133 := by
  intro l G d C hC
  rw [zt133, pg133]
  exact ⟨xp133, false, rfl, (by decide +kernel), (fun h => by cases h), xm133 hC⟩
theorem xs134 : z_P 134 := by
  intro l G d C hC
  rw [zt134, pg134]
  exact ⟨xp134, false, rfl, (by decide +kernel), (fun h => by cases h), xm134 hC⟩
theorem xs135 : z_P 135 := by
  intro l G d C hC
  rw [zt135, pg135]
  exact ⟨xp135, false, rfl, (by decide +kernel), (fun h => by cases h), xm135 hC⟩
theorem xs136 : z_P 136 := by
  intro l G d C hC
  rw [zt136, pg136]
  exact ⟨xp136, false, rfl, (by decide +kernel), (fun h => by cases h), xm136 hC⟩
theorem xs137 : z_P 137 := by
  intro l G d C hC
  rw [zt137, pg137]
  exact ⟨xp137, false, rfl, (by decide +kernel), (fun h => by cases h), xm137 hC⟩
theorem xs138 : z_P 138 := by
  intro l G d C hC
  rw [zt138, pg138]
  exact ⟨xp138, false, rfl, (by decide +kernel), (fun h => by cases h), xm138 hC⟩
theorem xs139 : z_P 139 := by
  intro l G d C hC
  rw [zt139, pg139]
  exact ⟨xp139, false, rfl, (by decide +kernel), (fun h => by cases h), xm139 hC⟩
theorem xs140 : z_P 140 := by
  intro l G d C hC
  rw [zt140, pg140]
  exact ⟨xp140, false, rfl, (by decide +kernel), (fun h => by cases h), xm140 hC⟩
theorem xs141 : z_P 141 := by
  intro l G d C hC
  rw [zt141, pg141]
  exact ⟨xp141, false, rfl, (by decide +kernel), (fun h => by cases h), xm141 hC⟩
theorem xs142 : z_P 142 := by
  intro l G d C hC
  rw [zt142, pg142]
  exact ⟨xp142, false, rfl, (by decide +kernel), (fun h => by cases h), xm142 hC⟩
theorem xs143 : z_P 143 := by
  intro l G d C hC
  rw [zt143, pg143]
  exact ⟨xp143, false, rfl, (by decide +kernel), (fun h => by cases h), xm143 hC⟩
theorem xs144 : z_P 144 := by
  intro l G d C hC
  rw [zt144, pg144]
  exact ⟨xp144, false, rfl, (by decide +kernel), (fun h => by cases h), xm144 hC⟩
theorem xs145 : z_P 145 := by
  intro l G d C hC
  rw [zt145, pg145]
  exact ⟨xp145, false, rfl, (by decide +kernel), (fun h => by cases h), xm145 hC⟩
theorem xs146 : z_P 146 := by
  intro l G d C hC
  rw [zt146, pg146]
  exact ⟨xp146, false, rfl, (by decide +kernel), (fun h => by cases h), xm146 hC⟩
theorem xs147 : z_P 147 := by
  intro l G d C hC
  rw [zt147, pg147]
  exact ⟨xp147, false, rfl, (by decide +kernel), (fun h => by cases h), xm147 hC⟩
theorem xs148 : z_P 148 := by
  intro l G d C hC
  rw [zt148, pg148]
  exact ⟨xp148, false, rfl, (by decide +kernel), (fun h => by cases h), xm148 hC⟩
theorem xs149 : z_P 149 := by
  intro l G d C hC
  rw [zt149, pg149]
  exact ⟨xp149, false, rfl, (by decide +kernel), (fun h => by cases h), xm149 hC⟩
theorem xs150 : z_P 150 := by
  intro l G d C hC
  rw [zt150, pg150]
  exact ⟨xp150, false, rfl, (by decide +kernel), (fun h => by cases h), xm150 hC⟩
theorem xs151 : z_P 151 := by
  intro l G d C hC
  rw [zt151, pg151]
  exact ⟨xp151, false, rfl, (by decide +kernel), (fun h => by cases h), xm151 hC⟩
theorem xs152 : z_P 152 := by
  intro l G d C hC
  rw [zt152, pg152]
  exact ⟨xp152, false, rfl, (by decide +kernel), (fun h => by cases h), xm152 hC⟩
theorem xs153 : z_P 153 := by
  intro l G d C hC
  rw [zt153, pg153]
  exact ⟨xp153, false, rfl, (by decide +kernel), (fun h => by cases h), xm153 hC⟩
theorem xs154 : z_P 154 := by
  intro l G d C hC
  rw [zt154, pg154]
  exact ⟨xp154, false, rfl, (by decide +kernel), (fun h => by cases h), xm154 hC⟩
theorem xs155 : z_P 155 := by
  intro l G d C hC
  rw [zt155, pg155]
  exact ⟨xp155, false, rfl, (by decide +kernel), (fun h => by cases h), xm155 hC⟩
theorem xs156 : z_P 156 := by
  intro l G d C hC
  rw [zt156, pg156]
  exact ⟨xp156, false, rfl, (by decide +kernel), (fun h => by cases h), xm156 hC⟩
theorem xs157 : z_P 157 := by
  intro l G d C hC
  rw [zt157, pg157]
  exact ⟨xp157, false, rfl, (by decide +kernel), (fun h => by cases h), xm157 hC⟩
theorem xs158 : z_P 158 := by
  intro l G d C hC
  rw [zt158, pg158]
  exact ⟨xp158, false, rfl, (by decide +kernel), (fun h => by cases h), xm158 hC⟩
theorem xs159 : z_P 159 := by
  intro l G d C hC
  rw [zt159, pg159]
  exact ⟨xp159, false, rfl, (by decide +kernel), (fun h => by cases h), xm159 hC⟩
theorem xs160 : z_P 160 := by
  intro l G d C hC
  rw [zt160, pg160]
  exact ⟨xp160, false, rfl, (by decide +kernel), (fun h => by cases h), xm160 hC⟩
theorem xs161 : z_P 161 := by
  intro l G d C hC
  rw [zt161, pg161]
  exact ⟨xp161, false, rfl, (by decide +kernel), (fun h => by cases h), xm161 hC⟩
theorem xs162 : z_P 162 := by
  intro l G d C hC
  rw [zt162, pg162]
  exact ⟨xp162, false, rfl, (by decide +kernel), (fun h => by cases h), xm162 hC⟩
theorem xs163 : z_P 163 := by
  intro l G d C hC
  rw [zt163, pg163]
  exact ⟨xp163, false, rfl, (by decide +kernel), (fun h => by cases h), xm163 hC⟩
theorem xs164 : z_P 164 := by
  intro l G d C hC
  rw [zt164, pg164]
  exact ⟨xp164, false, rfl, (by decide +kernel), (fun h => by cases h), xm164 hC⟩
theorem xs165 : z_P 165 := by
  intro l G d C hC
  rw [zt165, pg165]
  exact ⟨xp165, false, rfl, (by decide +kernel), (fun h => by cases h), xm165 hC⟩
theorem xs166 : z_P 166 := by
  intro l G d C hC
  rw [zt166, pg166]
  exact ⟨xp166, false, rfl, (by decide +kernel), (fun h => by cases h), xm166 hC⟩
theorem xs167 : z_P 167 := by
  intro l G d C hC
  rw [zt167, pg167]
  exact ⟨xp167, false, rfl, (by decide +kernel), (fun h => by cases h), xm167 hC⟩
theorem xs168 : z_P 168 := by
  intro l G d C hC
  rw [zt168, pg168]
  exact ⟨xp168, false, rfl, (by decide +kernel), (fun h => by cases h), xm168 hC⟩
theorem xs169 : z_P 169 := by
  intro l G d C hC
  rw [zt169, pg169]
  exact ⟨xp169, false, rfl, (by decide +kernel), (fun h => by cases h), xm169 hC⟩
theorem xs170 : z_P 170 := by
  intro l G d C hC
  rw [zt170, pg170]
  exact ⟨xp170, false, rfl, (by decide +kernel), (fun h => by cases h), xm170 hC⟩
theorem xs171 : z_P 171 := by
  intro l G d C hC
  rw [zt171, pg171]
  exact ⟨xp171, false, rfl, (by decide +kernel), (fun h => by cases h), xm171 hC⟩
theorem xs172 : z_P 172 := by
  intro l G d C hC
  rw [zt172, pg172]
  exact ⟨xp172, false, rfl, (by decide +kernel), (fun h => by cases h), xm172 hC⟩
theorem xs173 : z_P 173 := by
  intro l G d C hC
  rw [zt173, pg173]
  exact ⟨xp173, false, rfl, (by decide +kernel), (fun h => by cases h), xm173 hC⟩
theorem xs174 : z_P 174 := by
  intro l G d C hC
  rw [zt174, pg174]
  exact ⟨xp174, false, rfl, (by decide +kernel), (fun h => by cases h), xm174 hC⟩
theorem xs175 : z_P 175 := by
  intro l G d C hC
  rw [zt175, pg175]
  exact ⟨xp175, false, rfl, (by decide +kernel), (fun h => by cases h), xm175 hC⟩
theorem xs176 : z_P 176 := by
  intro l G d C hC
  rw [zt176, pg176]
  exact ⟨xp176, false, rfl, (by decide +kernel), (fun h => by cases h), xm176 hC⟩
theorem xs177 : z_P 177 := by
  intro l G d C hC
  rw [zt177, pg177]
  exact ⟨xp177, false, rfl, (by decide +kernel), (fun h => by cases h), xm177 hC⟩
theorem xs178 : z_P 178 := by
  intro l G d C hC
  rw [zt178, pg178]
  exact ⟨xp178, false, rfl, (by decide +kernel), (fun h => by cases h), xm178 hC⟩
theorem xs179 : z_P 179 := by
  intro l G d C hC
  rw [zt179, pg179]
  exact ⟨xp179, false, rfl, (by decide +kernel), (fun h => by cases h), xm179 hC⟩
theorem xs180 : z_P 180 := by
  intro l G d C hC
  rw [zt180, pg180]
  exact ⟨xp180, false, rfl, (by decide +kernel), (fun h => by cases h), xm180 hC⟩
theorem xs181 : z_P 181 := by
  intro l G d C hC
  rw [zt181, pg181]
  exact ⟨xp181, false, rfl, (by decide +kernel), (fun h => by cases h), xm181 hC⟩
theorem xs182 : z_P 182 := by
  intro l G d C hC
  rw [zt182, pg182]
  exact ⟨xp182, false, rfl, (by decide +kernel), (fun h => by cases h), xm182 hC⟩
theorem xs183 : z_P 183 := by
  intro l G d C hC
  rw [zt183, pg183]
  exact ⟨xp183, false, rfl, (by decide +kernel), (fun h => by cases h), xm183 hC⟩
theorem xs184 : z_P 184 := by
  intro l G d C hC
  rw [zt184, pg184]
  exact ⟨xp184, false, rfl, (by decide +kernel), (fun h => by cases h), xm184 hC⟩
theorem xs185 : z_P 185 := by
  intro l G d C hC
  rw [zt185, pg185]
  exact ⟨xp185, false, rfl, (by decide +kernel), (fun h => by cases h), xm185 hC⟩
theorem xs186 : z_P 186 := by
  intro l G d C hC
  rw [zt186, pg186]
  exact ⟨xp186, true, rfl, (by decide +kernel), (fun _ => rfl), xm186 hC⟩
theorem xs187 : z_P 187 := by
  intro l G d C hC
  rw [zt187, pg187]
  exact ⟨xp187, false, rfl, (by decide +kernel), (fun h => by cases h), xm187 hC⟩
theorem xs188 : z_P 188 := by
  intro l G d C hC
  rw [zt188, pg188]
  exact ⟨xp188, false, rfl, (by decide +kernel), (fun h => by cases h), xm188 hC⟩
theorem xs189 : z_P 189 := by
  intro l G d C hC
  rw [zt189, pg189]
  exact ⟨xp189, true, rfl, (by decide +kernel), (fun _ => rfl), xm189 hC⟩
theorem xs190 : z_P 190 := by
  intro l G d C hC
  rw [zt190, pg190]
  exact ⟨xp190, true, rfl, (by decide +kernel), (fun _ => rfl), xm190 hC⟩
theorem xs191 : z_P 191 := by
  intro l G d C hC
  rw [zt191, pg191]
  exact ⟨xp191, false, rfl, (by decide +kernel), (fun h => by cases h), xm191 hC⟩
theorem xs192 : z_P 192 := by
  intro l G d C hC
  rw [zt192, pg192]
  exact ⟨xp192, false, rfl, (by decide +kernel), (fun h => by cases h), xm192 hC⟩
theorem xs193 : z_P 193 := by
  intro l G d C hC
  rw [zt193, pg193]
  exact ⟨xp193, false, rfl, (by decide +kernel), (fun h => by cases h), xm193 hC⟩
theorem xs194 : z_P 194 := by
  intro l G d C hC
  rw [zt194, pg194]
  exact ⟨xp194, false, rfl, (by decide +kernel), (fun h => by cases h), xm194 hC⟩
theorem xs195 : z_P 195 := by
  intro l G d C hC
  rw [zt195, pg195]
  exact ⟨xp195, false, rfl, (by decide +kernel), (fun h => by cases h), xm195 hC⟩
theorem xs196 : z_P 196 := by
  intro l G d C hC
  rw [zt196, pg196]
  exact ⟨xp196, true, rfl, (by decide +kernel), (fun _ => rfl), xm196 hC⟩
theorem xs197 : z_P 197 := by
  intro l G d C hC
  rw [zt197, pg197]
  exact ⟨xp197, false, rfl, (by decide +kernel), (fun h => by cases h), xm197 hC⟩
theorem xs198 : z_P 198 := by
  intro l G d C hC
  rw [zt198, pg198]
  exact ⟨xp198, false, rfl, (by decide +kernel), (fun h => by cases h), xm198 hC⟩
theorem xs199 : z_P 199 := by
  intro l G d C hC
  rw [zt199, pg199]
  exact ⟨xp199, false, rfl, (by decide +kernel), (fun h => by cases h), xm199 hC⟩
theorem xs200 : z_P 200 := by
  intro l G d C hC
  rw [zt200, pg200]
  exact ⟨xp200, false, rfl, (by decide +kernel), (fun h => by cases h), xm200 hC⟩
theorem xs201 : z_P 201 := by
  intro l G d C hC
  rw [zt201, pg201]
  exact ⟨xp201, false, rfl, (by decide +kernel), (fun h => by cases h), xm201 hC⟩
theorem xs202 : z_P 202 := by
  intro l G d C hC
  rw [zt202, pg202]
  exact ⟨xp202, false, rfl, (by decide +kernel), (fun h => by cases h), xm202 hC⟩
theorem xs203 : z_P 203 := by
  intro l G d C hC
  rw [zt203, pg203]
  exact ⟨xp203, false, rfl, (by decide +kernel), (fun h => by cases h), xm203 hC⟩
theorem xs204 : z_P 204 := by
  intro l G d C hC
  rw [zt204, pg204]
  exact ⟨xp204, false, rfl, (by decide +kernel), (fun h => by cases h), xm204 hC⟩
theorem xs205 : z_P 205 := by
  intro l G d C hC
  rw [zt205, pg205]
  exact ⟨xp205, false, rfl, (by decide +kernel), (fun h => by cases h), xm205 hC⟩
theorem xs206 : z_P 206 := by
  intro l G d C hC
  rw [zt206, pg206]
  exact ⟨xp206, false, rfl, (by decide +kernel), (fun h => by cases h), xm206 hC⟩
theorem xs207 : z_P 207 := by
  intro l G d C hC
  rw [zt207, pg207]
  exact ⟨xp207, false, rfl, (by decide +kernel), (fun h => by cases h), xm207 hC⟩
theorem xs208 : z_P 208 := by
  intro l G d C hC
  rw [zt208, pg208]
  exact ⟨xp208, false, rfl, (by decide +kernel), (fun h => by cases h), xm208 hC⟩
theorem xs209 : z_P 209 := by
  intro l G d C hC
  rw [zt209, pg209]
  exact ⟨xp209, false, rfl, (by decide +kernel), (fun h => by cases h), xm209 hC⟩
theorem xs210 : z_P 210 := by
  intro l G d C hC
  rw [zt210, pg210]
  exact ⟨xp210, false, rfl, (by decide +kernel), (fun h => by cases h), xm210 hC⟩
theorem xs211 : z_P 211 := by
  intro l G d C hC
  rw [zt211, pg211]
  exact ⟨xp211, false, rfl, (by decide +kernel), (fun h => by cases h), xm211 hC⟩
theorem xs212 : z_P 212 := by
  intro l G d C hC
  rw [zt212, pg212]
  exact ⟨xp212, false, rfl, (by decide +kernel), (fun h => by cases h), xm212 hC⟩
theorem xs213 : z_P 213 := by
  intro l G d C hC
  rw [zt213, pg213]
  exact ⟨xp213, false, rfl, (by decide +kernel), (fun h => by cases h), xm213 hC⟩
theorem xs214 : z_P 214 := by
  intro l G d C hC
  rw [zt214, pg214]
  exact ⟨xp214, false, rfl, (by decide +kernel), (fun h => by cases h), xm214 hC⟩
theorem xs215 : z_P 215 := by
  intro l G d C hC
  rw [zt215, pg215]
  exact ⟨xp215, false, rfl, (by decide +kernel), (fun h => by cases h), xm215 hC⟩
theorem xs216 : z_P 216 := by
  intro l G d C hC
  rw [zt216, pg216]
  exact ⟨xp216, true, rfl, (by decide +kernel), (fun _ => rfl), xm216 hC⟩
theorem xs217 : z_P 217 := by
  intro l G d C hC
  rw [zt217, pg217]
  exact ⟨xp217, false, rfl, (by decide +kernel), (fun h => by cases h), xm217 hC⟩
theorem xs218 : z_P 218 := by
  intro l G d C hC
  rw [zt218, pg218]
  exact ⟨xp218, false, rfl, (by decide +kernel), (fun h => by cases h), xm218 hC⟩
theorem xs219 : z_P 219 := by
  intro l G d C hC
  rw [zt219, pg219]
  exact ⟨xp219, false, rfl, (by decide +kernel), (fun h => by cases h), xm219 hC⟩
theorem xs220 : z_P 220 := by
  intro l G d C hC
  rw [zt220, pg220]
  exact ⟨xp220, false, rfl, (by decide +kernel), (fun h => by cases h), xm220 hC⟩
theorem xs221 : z_P 221 := by
  intro l G d C hC
  rw [zt221, pg221]
  exact ⟨xp221, false, rfl, (by decide +kernel), (fun h => by cases h), xm221 hC⟩
theorem xs222 : z_P 222 := by
  intro l G d C hC
  rw [zt222, pg222]
  exact ⟨xp222, false, rfl, (by decide +kernel), (fun h => by cases h), xm222 hC⟩
theorem xs223 : z_P 223 := by
  intro l G d C hC
  rw [zt223, pg223]
  exact ⟨xp223, false, rfl, (by decide +kernel), (fun h => by cases h), xm223 hC⟩
theorem xs224 : z_P 224 := by
  intro l G d C hC
  rw [zt224, pg224]
  exact ⟨xp224, false, rfl, (by decide +kernel), (fun h => by cases h), xm224 hC⟩
theorem xs225 : z_P 225 := by
  intro l G d C hC
  rw [zt225, pg225]
  exact ⟨xp225, false, rfl, (by decide +kernel), (fun h => by cases h), xm225 hC⟩
theorem xs226 : z_P 226 := by
  intro l G d C hC
  rw [zt226, pg226]
  exact ⟨xp226, false, rfl, (by decide +kernel), (fun h => by cases h), xm226 hC⟩
theorem xs227 : z_P 227 := by
  intro l G d C hC
  rw [zt227, pg227]
  exact ⟨xp227, false, rfl, (by decide +kernel), (fun h => by cases h), xm227 hC⟩
theorem xs228 : z_P 228 := by
  intro l G d C hC
  rw [zt228, pg228]
  exact ⟨xp228, false, rfl, (by decide +kernel), (fun h => by cases h), xm228 hC⟩
theorem xs229 : z_P 229 := by
  intro l G d C hC
  rw [zt229, pg229]
  exact ⟨xp229, true, rfl, (by decide +kernel), (fun _ => rfl), xm229 hC⟩
theorem xs230 : z_P 230 := by
  intro l G d C hC
  rw [zt230, pg230]
  exact ⟨xp230, false, rfl, (by decide +kernel), (fun h => by cases h), xm230 hC⟩
theorem xs231 : z_P 231 := by
  intro l G d C hC
  rw [zt231, pg231]
  exact ⟨xp231, false, rfl, (by decide +kernel), (fun h => by cases h), xm231 hC⟩
theorem xs232 : z_P 232 := by
  intro l G d C hC
  rw [zt232, pg232]
  exact ⟨xp232, false, rfl, (by decide +kernel), (fun h => by cases h), xm232 hC⟩
theorem xs233 : z_P 233 := by
  intro l G d C hC
  rw [zt233, pg233]
  exact ⟨xp233, false, rfl, (by decide +kernel), (fun h => by cases h), xm233 hC⟩
theorem xs234 : z_P 234 := by
  intro l G d C hC
  rw [zt234, pg234]
  exact ⟨xp234, true, rfl, (by decide +kernel), (fun _ => rfl), xm234 hC⟩
theorem xs235 : z_P 235 := by
  intro l G d C hC
  rw [zt235, pg235]
  exact ⟨xp235, true, rfl, (by decide +kernel), (fun _ => rfl), xm235 hC⟩
theorem xs236 : z_P 236 := by
  intro l G d C hC
  rw [zt236, pg236]
  exact ⟨xp236, false, rfl, (by decide +kernel), (fun h => by cases h), xm236 hC⟩
theorem xs237 : z_P 237 := by
  intro l G d C hC
  rw [zt237, pg237]
  exact ⟨xp237, false, rfl, (by decide +kernel), (fun h => by cases h), xm237 hC⟩
theorem xs238 : z_P 238 := by
  intro l G d C hC
  rw [zt238, pg238]
  exact ⟨xp238, true, rfl, (by decide +kernel), (fun _ => rfl), xm238 hC⟩
theorem xs239 : z_P 239 := by
  intro l G d C hC
  rw [zt239, pg239]
  exact ⟨xp239, false, rfl, (by decide +kernel), (fun h => by cases h), xm239 hC⟩
theorem xs240 : z_P 240 := by
  intro l G d C hC
  rw [zt240, pg240]
  exact ⟨xp240, false, rfl, (by decide +kernel), (fun h => by cases h), xm240 hC⟩
theorem xs241 : z_P 241 := by
  intro l G d C hC
  rw [zt241, pg241]
  exact ⟨xp241, false, rfl, (by decide +kernel), (fun h => by cases h), xm241 hC⟩
theorem xs242 : z_P 242 := by
  intro l G d C hC
  rw [zt242, pg242]
  exact ⟨xp242, false, rfl, (by decide +kernel), (fun h => by cases h), xm242 hC⟩
theorem xs243 : z_P 243 := by
  intro l G d C hC
  rw [zt243, pg243]
  exact ⟨xp243, false, rfl, (by decide +kernel), (fun h => by cases h), xm243 hC⟩
theorem xs244 : z_P 244 := by
  intro l G d C hC
  rw [zt244, pg244]
  exact ⟨xp244, false, rfl, (by decide +kernel), (fun h => by cases h), xm244 hC⟩
theorem xs245 : z_P 245 := by
  intro l G d C hC
  rw [zt245, pg245]
  exact ⟨xp245, false, rfl, (by decide +kernel), (fun h => by cases h), xm245 hC⟩
theorem xs246 : z_P 246 := by
  intro l G d C hC
  rw [zt246, pg246]
  exact ⟨xp246, false, rfl, (by decide +kernel), (fun h => by cases h), xm246 hC⟩
theorem xs247 : z_P 247 := by
  intro l G d C hC
  rw [zt247, pg247]
  exact ⟨xp247, false, rfl, (by decide +kernel), (fun h => by cases h), xm247 hC⟩
theorem xl0 : ∀ a, a < 0 → z_P a := fun a h => absurd h (Nat.not_lt_zero a)
theorem xl1 : ∀ a, a < 1 → z_P a := lt_s (p := z_P) xl0 xs0
theorem xl2 : ∀ a, a < 2 → z_P a := lt_s (p := z_P) xl1 xs1
theorem xl3 : ∀ a, a < 3 → z_P a := lt_s (p := z_P) xl2 xs2
theorem xl4 : ∀ a, a < 4 → z_P a := lt_s (p := z_P) xl3 xs3
theorem xl5 : ∀ a, a < 5 → z_P a := lt_s (p := z_P) xl4 xs4
theorem xl6 : ∀ a, a < 6 → z_P a := lt_s (p := z_P) xl5 xs5
theorem xl7 : ∀ a, a < 7 → z_P a := lt_s (p := z_P) xl6 xs6
theorem xl8 : ∀ a, a < 8 → z_P a := lt_s (p := z_P) xl7 xs7
theorem xl9 : ∀ a, a < 9 → z_P a := lt_s (p := z_P) xl8 xs8
theorem xl10 : ∀ a, a < 10 → z_P a := lt_s (p := z_P) xl9 xs9
theorem xl11 : ∀ a, a < 11 → z_P a := lt_s (p := z_P) xl10 xs10
theorem xl12 : ∀ a, a < 12 → z_P a := lt_s (p := z_P) xl11 xs11
theorem xl13 : ∀ a, a < 13 → z_P a := lt_s (p := z_P) xl12 xs12
theorem xl14 : ∀ a, a < 14 → z_P a := lt_s (p := z_P) xl13 xs13
theorem xl15 : ∀ a, a < 15 → z_P a := lt_s (p := z_P) xl14 xs14
theorem xl16 : ∀ a, a < 16 → z_P a := lt_s (p := z_P) xl15 xs15
theorem xl17 : ∀ a, a < 17 → z_P a := lt_s (p := z_P) xl16 xs16
theorem xl18 : ∀ a, a < 18 → z_P a := lt_s (p := z_P) xl17 xs17
theorem xl19 : ∀ a, a < 19 → z_P a := lt_s (p := z_P) xl18 xs18
theorem xl20 : ∀ a, a < 20 → z_P a := lt_s (p := z_P) xl19 xs19
theorem xl21 : ∀ a, a < 21 → z_P a := lt_s (p := z_P) xl20 xs20
theorem xl22 : ∀ a, a < 22 → z_P a := lt_s (p := z_P) xl21 xs21
theorem xl23 : ∀ a, a < 23 → z_P a := lt_s (p := z_P) xl22 xs22
theorem xl24 : ∀ a, a < 24 → z_P a := lt_s (p := z_P) xl23 xs23
theorem xl25 : ∀ a, a < 25 → z_P a := lt_s (p := z_P) xl24 xs24
theorem xl26 : ∀ a, a < 26 → z_P a := lt_s (p := z_P) xl25 xs25
theorem xl27 : ∀ a, a < 27 → z_P a := lt_s (p := z_P) xl26 xs26
theorem xl28 : ∀ a, a < 28 → z_P a := lt_s (p := z_P) xl27 xs27
theorem xl29 : ∀ a, a < 29 → z_P a := lt_s (p := z_P) xl28 xs28
theorem xl30 : ∀ a, a < 30 → z_P a := lt_s (p := z_P) xl29 xs29
theorem xl31 : ∀ a, a < 31 → z_P a := lt_s (p := z_P) xl30 xs30
theorem xl32 : ∀ a, a < 32 → z_P a := lt_s (p := z_P) xl31 xs31
theorem xl33 : ∀ a, a < 33 → z_P a := lt_s (p := z_P) xl32 xs32
theorem xl34 : ∀ a, a < 34 → z_P a := lt_s (p := z_P) xl33 xs33
theorem xl35 : ∀ a, a < 35 → z_P a := lt_s (p := z_P) xl34 xs34
theorem xl36 : ∀ a, a < 36 → z_P a := lt_s (p := z_P) xl35 xs35
theorem xl37 : ∀ a, a < 37 → z_P a := lt_s (p := z_P) xl36 xs36
theorem xl38 : ∀ a, a < 38 → z_P a := lt_s (p := z_P) xl37 xs37
theorem xl39 : ∀ a, a < 39 → z_P a := lt_s (p := z_P) xl38 xs38
theorem xl40 : ∀ a, a < 40 → z_P a := lt_s (p := z_P) xl39 xs39
theorem xl41 : ∀ a, a < 41 → z_P a := lt_s (p := z_P) xl40 xs40
theorem xl42 : ∀ a, a < 42 → z_P a := lt_s (p := z_P) xl41 xs41
theorem xl43 : ∀ a, a < 43 → z_P a := lt_s (p := z_P) xl42 xs42
theorem xl44 : ∀ a, a < 44 → z_P a := lt_s (p := z_P) xl43 xs43
theorem xl45 : ∀ a, a < 45 → z_P a := lt_s (p := z_P) xl44 xs44
theorem xl46 : ∀ a, a < 46 → z_P a := lt_s (p := z_P) xl45 xs45
theorem xl47 : ∀ a, a < 47 → z_P a := lt_s (p := z_P) xl46 xs46
theorem xl48 : ∀ a, a < 48 → z_P a := lt_s (p := z_P) xl47 xs47
theorem xl49 : ∀ a, a < 49 → z_P a := lt_s (p := z_P) xl48 xs48
theorem xl50 : ∀ a, a < 50 → z_P a := lt_s (p := z_P) xl49 xs49
theorem xl51 : ∀ a, a < 51 → z_P a := lt_s (p := z_P) xl50 xs50
theorem xl52 : ∀ a, a < 52 → z_P a := lt_s (p := z_P) xl51 xs51
theorem xl53 : ∀ a, a < 53 → z_P a := lt_s (p := z_P) xl52 xs52
theorem xl54 : ∀ a, a < 54 → z_P a := lt_s (p := z_P) xl53 xs53
theorem xl55 : ∀ a, a < 55 → z_P a := lt_s (p := z_P) xl54 xs54
theorem xl56 : ∀ a, a < 56 → z_P a := lt_s (p := z_P) xl55 xs55
theorem xl57 : ∀ a, a < 57 → z_P a := lt_s (p := z_P) xl56 xs56
theorem xl58 : ∀ a, a < 58 → z_P a := lt_s (p := z_P) xl57 xs57
theorem xl59 : ∀ a, a < 59 → z_P a := lt_s (p := z_P) xl58 xs58
theorem xl60 : ∀ a, a < 60 → z_P a := lt_s (p := z_P) xl59 xs59
theorem xl61 : ∀ a, a < 61 → z_P a := lt_s (p := z_P) xl60 xs60
theorem xl62 : ∀ a, a < 62 → z_P a := lt_s (p := z_P) xl61 xs61
theorem xl63 : ∀ a, a < 63 → z_P a := lt_s (p := z_P) xl62 xs62
theorem xl64 : ∀ a, a < 64 → z_P a := lt_s (p := z_P) xl63 xs63
theorem xl65 : ∀ a, a < 65 → z_P a := lt_s (p := z_P) xl64 xs64
theorem xl66 : ∀ a, a < 66 → z_P a := lt_s (p := z_P) xl65 xs65
theorem xl67 : ∀ a, a < 67 → z_P a := lt_s (p := z_P) xl66 xs66
theorem xl68 : ∀ a, a < 68 → z_P a := lt_s (p := z_P) xl67 xs67
theorem xl69 : ∀ a, a < 69 → z_P a := lt_s (p := z_P) xl68 xs68
theorem xl70 : ∀ a, a < 70 → z_P a := lt_s (p := z_P) xl69 xs69
theorem xl71 : ∀ a, a < 71 → z_P a := lt_s (p := z_P) xl70 xs70
theorem xl72 : ∀ a, a < 72 → z_P a := lt_s (p := z_P) xl71 xs71
theorem xl73 : ∀ a, a < 73 → z_P a := lt_s (p := z_P) xl72 xs72
theorem xl74 : ∀ a, a < 74 → z_P a := lt_s (p := z_P) xl73 xs73
theorem xl75 : ∀ a, a < 75 → z_P a := lt_s (p := z_P) xl74 xs74
theorem xl76 : ∀ a, a < 76 → z_P a := lt_s (p := z_P) xl75 xs75
theorem xl77 : ∀ a, a < 77 → z_P a := lt_s (p := z_P) xl76 xs76
theorem xl78 : ∀ a, a < 78 → z_P a := lt_s (p := z_P) xl77 xs77
theorem xl79 : ∀ a, a < 79 → z_P a := lt_s (p := z_P) xl78 xs78
theorem xl80 : ∀ a, a < 80 → z_P a := lt_s (p := z_P) xl79 xs79
theorem xl81 : ∀ a, a < 81 → z_P a := lt_s (p := z_P) xl80 xs80
theorem xl82 : ∀ a, a < 82 → z_P a := lt_s (p := z_P) xl81 xs81
theorem xl83 : ∀ a, a < 83 → z_P a := lt_s (p := z_P) xl82 xs82
theorem xl84 : ∀ a, a < 84 → z_P a := lt_s (p := z_P) xl83 xs83
theorem xl85 : ∀ a, a < 85 → z_P a := lt_s (p := z_P) xl84 xs84
theorem xl86 : ∀ a, a < 86 → z_P a := lt_s (p := z_P) xl85 xs85
theorem xl87 : ∀ a, a < 87 → z_P a := lt_s (p := z_P) xl86 xs86
theorem xl88 : ∀ a, a < 88 → z_P a := lt_s (p := z_P) xl87 xs87
theorem xl89 : ∀ a, a < 89 → z_P a := lt_s (p := z_P) xl88 xs88
theorem xl90 : ∀ a, a < 90 → z_P a := lt_s (p := z_P) xl89 xs89
theorem xl91 : ∀ a, a < 91 → z_P a := lt_s (p := z_P) xl90 xs90
theorem xl92 : ∀ a, a < 92 → z_P a := lt_s (p := z_P) xl91 xs91
theorem xl93 : ∀ a, a < 93 → z_P a := lt_s (p := z_P) xl92 xs92
theorem xl94 : ∀ a, a < 94 → z_P a := lt_s (p := z_P) xl93 xs93
theorem xl95 : ∀ a, a < 95 → z_P a := lt_s (p := z_P) xl94 xs94
theorem xl96 : ∀ a, a < 96 → z_P a := lt_s (p := z_P) xl95 xs95
theorem xl97 : ∀ a, a < 97 → z_P a := lt_s (p := z_P) xl96 xs96
theorem xl98 : ∀ a, a < 98 → z_P a := lt_s (p := z_P) xl97 xs97
theorem xl99 : ∀ a, a < 99 → z_P a := lt_s (p := z_P) xl98 xs98
theorem xl100 : ∀ a, a < 100 → z_P a := lt_s (p := z_P) xl99 xs99
theorem xl101 : ∀ a, a < 101 → z_P a := lt_s (p := z_P) xl100 xs100
theorem xl102 : ∀ a, a < 102 → z_P a := lt_s (p := z_P) xl101 xs101
theorem xl103 : ∀ a, a < 103 → z_P a := lt_s (p := z_P) xl102 xs102
theorem xl104 : ∀ a, a < 104 → z_P a := lt_s (p := z_P) xl103 xs103
theorem xl105 : ∀ a, a < 105 → z_P a := lt_s (p := z_P) xl104 xs104
theorem xl106 : ∀ a, a < 106 → z_P a := lt_s (p := z_P) xl105 xs105
theorem xl107 : ∀ a, a < 107 → z_P a := lt_s (p := z_P) xl106 xs106
theorem xl108 : ∀ a, a < 108 → z_P a := lt_s (p := z_P) xl107 xs107
theorem xl109 : ∀ a, a < 109 → z_P a := lt_s (p := z_P) xl108 xs108
theorem xl110 : ∀ a, a < 110 → z_P a := lt_s (p := z_P) xl109 xs109
theorem xl111 : ∀ a, a < 111 → z_P a := lt_s (p := z_P) xl110 xs110
theorem xl112 : ∀ a, a < 112 → z_P a := lt_s (p := z_P) xl111 xs111
theorem xl113 : ∀ a, a < 113 → z_P a := lt_s (p := z_P) xl112 xs112
theorem xl114 : ∀ a, a < 114 → z_P a := lt_s (p := z_P) xl113 xs113
theorem xl115 : ∀ a, a < 115 → z_P a := lt_s (p := z_P) xl114 xs114
theorem xl116 : ∀ a, a < 116 → z_P a := lt_s (p := z_P) xl115 xs115
theorem xl117 : ∀ a, a < 117 → z_P a := lt_s (p := z_P) xl116 xs116
theorem xl118 : ∀ a, a < 118 → z_P a := lt_s (p := z_P) xl117 xs117
theorem xl119 : ∀ a, a < 119 → z_P a := lt_s (p := z_P) xl118 xs118
theorem xl120 : ∀ a, a < 120 → z_P a := lt_s (p := z_P) xl119 xs119
theorem xl121 : ∀ a, a < 121 → z_P a := lt_s (p := z_P) xl120 xs120
theorem xl122 : ∀ a, a < 122 → z_P a := lt_s (p := z_P) xl121 xs121
theorem xl123 : ∀ a, a < 123 → z_P a := lt_s (p := z_P) xl122 xs122
theorem xl124 : ∀ a, a < 124 → z_P a := lt_s (p := z_P) xl123 xs123
theorem xl125 : ∀ a, a < 125 → z_P a := lt_s (p := z_P) xl124 xs124
theorem xl126 : ∀ a, a < 126 → z_P a := lt_s (p := z_P) xl125 xs125
theorem xl127 : ∀ a, a < 127 → z_P a := lt_s (p := z_P) xl126 xs126
theorem xl128 : ∀ a, a < 128 → z_P a := lt_s (p := z_P) xl127 xs127
theorem xl129 : ∀ a, a < 129 → z_P a := lt_s (p := z_P) xl128 xs128
theorem xl130 : ∀ a, a < 130 → z_P a := lt_s (p := z_P) xl129 xs129
theorem xl131 : ∀ a, a < 131 → z_P a := lt_s (p := z_P) xl130 xs130
theorem xl132 : ∀ a, a < 132 → z_P a := lt_s (p := z_P) xl131 xs131
theorem xl133 : ∀ a, a < 133 → z_P a := lt_s (p := z_P) xl132 xs132
theorem xl134 : ∀ a, a < 134 → z_P a := lt_s (p := z_P) xl133 xs133
theorem xl135 : ∀ a, a < 135 → z_P a := lt_s (p := z_P) xl134 xs134
theorem xl136 : ∀ a, a < 136 → z_P a := lt_s (p := z_P) xl135 xs135
theorem xl137 : ∀ a, a < 137 → z_P a := lt_s (p := z_P) xl136 xs136
theorem xl138 : ∀ a, a < 138 → z_P a := lt_s (p := z_P) xl137 xs137
theorem xl139 : ∀ a, a < 139 → z_P a := lt_s (p := z_P) xl138 xs138
theorem xl140 : ∀ a, a < 140 → z_P a := lt_s (p := z_P) xl139 xs139
theorem xl141 : ∀ a, a < 141 → z_P a := lt_s (p := z_P) xl140 xs140
theorem xl142 : ∀ a, a < 142 → z_P a := lt_s (p := z_P) xl141 xs141
theorem xl143 : ∀ a, a < 143 → z_P a := lt_s (p := z_P) xl142 xs142
theorem xl144 : ∀ a, a < 144 → z_P a := lt_s (p := z_P) xl143 xs143
theorem xl145 : ∀ a, a < 145 → z_P a := lt_s (p := z_P) xl144 xs144
theorem xl146 : ∀ a, a < 146 → z_P a := lt_s (p := z_P) xl145 xs145
theorem xl147 : ∀ a, a < 147 → z_P a := lt_s (p := z_P) xl146 xs146
theorem xl148 : ∀ a, a < 148 → z_P a := lt_s (p := z_P) xl147 xs147
theorem xl149 : ∀ a, a < 149 → z_P a := lt_s (p := z_P) xl148 xs148
theorem xl150 : ∀ a, a < 150 → z_P a := lt_s (p := z_P) xl149 xs149
theorem xl151 : ∀ a, a < 151 → z_P a := lt_s (p := z_P) xl150 xs150
theorem xl152 : ∀ a, a < 152 → z_P a := lt_s (p := z_P) xl151 xs151
theorem xl153 : ∀ a, a < 153 → z_P a := lt_s (p := z_P) xl152 xs152
theorem xl154 : ∀ a, a < 154 → z_P a := lt_s (p := z_P) xl153 xs153
theorem xl155 : ∀ a, a < 155 → z_P a := lt_s (p := z_P) xl154 xs154
theorem xl156 : ∀ a, a < 156 → z_P a := lt_s (p := z_P) xl155 xs155
theorem xl157 : ∀ a, a < 157 → z_P a := lt_s (p := z_P) xl156 xs156
theorem xl158 : ∀ a, a < 158 → z_P a := lt_s (p := z_P) xl157 xs157
theorem xl159 : ∀ a, a < 159 → z_P a := lt_s (p := z_P) xl158 xs158
theorem xl160 : ∀ a, a < 160 → z_P a := lt_s (p := z_P) xl159 xs159
theorem xl161 : ∀ a, a < 161 → z_P a := lt_s (p := z_P) xl160 xs160
theorem xl162 : ∀ a, a < 162 → z_P a := lt_s (p := z_P) xl161 xs161
theorem xl163 : ∀ a, a < 163 → z_P a := lt_s (p := z_P) xl162 xs162
theorem xl164 : ∀ a, a < 164 → z_P a := lt_s (p := z_P) xl163 xs163
theorem xl165 : ∀ a, a < 165 → z_P a := lt_s (p := z_P) xl164 xs164
theorem xl166 : ∀ a, a < 166 → z_P a := lt_s (p := z_P) xl165 xs165
theorem xl167 : ∀ a, a < 167 → z_P a := lt_s (p := z_P) xl166 xs166
theorem xl168 : ∀ a, a < 168 → z_P a := lt_s (p := z_P) xl167 xs167
theorem xl169 : ∀ a, a < 169 → z_P a := lt_s (p := z_P) xl168 xs168
theorem xl170 : ∀ a, a < 170 → z_P a := lt_s (p := z_P) xl169 xs169
theorem xl171 : ∀ a, a < 171 → z_P a := lt_s (p := z_P) xl170 xs170
theorem xl172 : ∀ a, a < 172 → z_P a := lt_s (p := z_P) xl171 xs171
theorem xl173 : ∀ a, a < 173 → z_P a := lt_s (p := z_P) xl172 xs172
theorem xl174 : ∀ a, a < 174 → z_P a := lt_s (p := z_P) xl173 xs173
theorem xl175 : ∀ a, a < 175 → z_P a := lt_s (p := z_P) xl174 xs174
theorem xl176 : ∀ a, a < 176 → z_P a := lt_s (p := z_P) xl175 xs175
theorem xl177 : ∀ a, a < 177 → z_P a := lt_s (p := z_P) xl176 xs176
theorem xl178 : ∀ a, a < 178 → z_P a := lt_s (p := z_P) xl177 xs177
theorem xl179 : ∀ a, a < 179 → z_P a := lt_s (p := z_P) xl178 xs178
theorem xl180 : ∀ a, a < 180 → z_P a := lt_s (p := z_P) xl179 xs179
theorem xl181 : ∀ a, a < 181 → z_P a := lt_s (p := z_P) xl180 xs180
theorem xl182 : ∀ a, a < 182 → z_P a := lt_s (p := z_P) xl181 xs181
theorem xl183 : ∀ a, a < 183 → z_P a := lt_s (p := z_P) xl182 xs182
theorem xl184 : ∀ a, a < 184 → z_P a := lt_s (p := z_P) xl183 xs183
theorem xl185 : ∀ a, a < 185 → z_P a := lt_s (p := z_P) xl184 xs184
theorem xl186 : ∀ a, a < 186 → z_P a := lt_s (p := z_P) xl185 xs185
theorem xl187 : ∀ a, a < 187 → z_P a := lt_s (p := z_P) xl186 xs186
theorem xl188 : ∀ a, a < 188 → z_P a := lt_s (p := z_P) xl187 xs187
theorem xl189 : ∀ a, a < 189 → z_P a := lt_s (p := z_P) xl188 xs188
theorem xl190 : ∀ a, a < 190 → z_P a := lt_s (p := z_P) xl189 xs189
theorem xl191 : ∀ a, a < 191 → z_P a := lt_s (p := z_P) xl190 xs190
theorem xl192 : ∀ a, a < 192 → z_P a := lt_s (p := z_P) xl191 xs191
theorem xl193 : ∀ a, a < 193 → z_P a := lt_s (p := z_P) xl192 xs192
theorem xl194 : ∀ a, a < 194 → z_P a := lt_s (p := z_P) xl193 xs193
theorem xl195 : ∀ a, a < 195 → z_P a := lt_s (p := z_P) xl194 xs194
theorem xl196 : ∀ a, a < 196 → z_P a := lt_s (p := z_P) xl195 xs195
theorem xl197 : ∀ a, a < 197 → z_P a := lt_s (p := z_P) xl196 xs196
theorem xl198 : ∀ a, a < 198 → z_P a := lt_s (p := z_P) xl197 xs197
theorem xl199 : ∀ a, a < 199 → z_P a := lt_s (p := z_P) xl198 xs198
theorem xl200 : ∀ a, a < 200 → z_P a := lt_s (p := z_P) xl199 xs199
theorem xl201 : ∀ a, a < 201 → z_P a := lt_s (p := z_P) xl200 xs200
theorem xl202 : ∀ a, a < 202 → z_P a := lt_s (p := z_P) xl201 xs201
theorem xl203 : ∀ a, a < 203 → z_P a := lt_s (p := z_P) xl202 xs202
theorem xl204 : ∀ a, a < 204 → z_P a := lt_s (p := z_P) xl203 xs203
theorem xl205 : ∀ a, a < 205 → z_P a := lt_s (p := z_P) xl204 xs204
theorem xl206 : ∀ a, a < 206 → z_P a := lt_s (p := z_P) xl205 xs205
theorem xl207 : ∀ a, a < 207 → z_P a := lt_s (p := z_P) xl206 xs206
theorem xl208 : ∀ a, a < 208 → z_P a := lt_s (p := z_P) xl207 xs207
theorem xl209 : ∀ a, a < 209 → z_P a := lt_s (p := z_P) xl208 xs208
theorem xl210 : ∀ a, a < 210 → z_P a := lt_s (p := z_P) xl209 xs209
theorem xl211 : ∀ a, a < 211 → z_P a := lt_s (p := z_P) xl210 xs210
theorem xl212 : ∀ a, a < 212 → z_P a := lt_s (p := z_P) xl211 xs211
theorem xl213 : ∀ a, a < 213 → z_P a := lt_s (p := z_P) xl212 xs212
theorem xl214 : ∀ a, a < 214 → z_P a := lt_s (p := z_P) xl213 xs213
theorem xl215 : ∀ a, a < 215 → z_P a := lt_s (p := z_P) xl214 xs214
theorem xl216 : ∀ a, a < 216 → z_P a := lt_s (p := z_P) xl215 xs215
theorem xl217 : ∀ a, a < 217 → z_P a := lt_s (p := z_P) xl216 xs216
theorem xl218 : ∀ a, a < 218 → z_P a := lt_s (p := z_P) xl217 xs217
theorem xl219 : ∀ a, a < 219 → z_P a := lt_s (p := z_P) xl218 xs218
theorem xl220 : ∀ a, a < 220 → z_P a := lt_s (p := z_P) xl219 xs219
theorem xl221 : ∀ a, a < 221 → z_P a := lt_s (p := z_P) xl220 xs220
theorem xl222 : ∀ a, a < 222 → z_P a := lt_s (p := z_P) xl221 xs221
theorem xl223 : ∀ a, a < 223 → z_P a := lt_s (p := z_P) xl222 xs222
theorem xl224 : ∀ a, a < 224 → z_P a := lt_s (p := z_P) xl223 xs223
theorem xl225 : ∀ a, a < 225 → z_P a := lt_s (p := z_P) xl224 xs224
theorem xl226 : ∀ a, a < 226 → z_P a := lt_s (p := z_P) xl225 xs225
theorem xl227 : ∀ a, a < 227 → z_P a := lt_s (p := z_P) xl226 xs226
theorem xl228 : ∀ a, a < 228 → z_P a := lt_s (p := z_P) xl227 xs227
theorem xl229 : ∀ a, a < 229 → z_P a := lt_s (p := z_P) xl228 xs228
theorem xl230 : ∀ a, a < 230 → z_P a := lt_s (p := z_P) xl229 xs229
theorem xl231 : ∀ a, a < 231 → z_P a := lt_s (p := z_P) xl230 xs230
theorem xl232 : ∀ a, a < 232 → z_P a := lt_s (p := z_P) xl231 xs231
theorem xl233 : ∀ a, a < 233 → z_P a := lt_s (p := z_P) xl232 xs232
theorem xl234 : ∀ a, a < 234 → z_P a := lt_s (p := z_P) xl233 xs233
theorem xl235 : ∀ a, a < 235 → z_P a := lt_s (p := z_P) xl234 xs234
theorem xl236 : ∀ a, a < 236 → z_P a := lt_s (p := z_P) xl235 xs235
theorem xl237 : ∀ a, a < 237 → z_P a := lt_s (p := z_P) xl236 xs236
theorem xl238 : ∀ a, a < 238 → z_P a := lt_s (p := z_P) xl237 xs237
theorem xl239 : ∀ a, a < 239 → z_P a := lt_s (p := z_P) xl238 xs238
theorem xl240 : ∀ a, a < 240 → z_P a := lt_s (p := z_P) xl239 xs239
theorem xl241 : ∀ a, a < 241 → z_P a := lt_s (p := z_P) xl240 xs240
theorem xl242 : ∀ a, a < 242 → z_P a := lt_s (p := z_P) xl241 xs241
theorem xl243 : ∀ a, a < 243 → z_P a := lt_s (p := z_P) xl242 xs242
theorem xl244 : ∀ a, a < 244 → z_P a := lt_s (p := z_P) xl243 xs243
theorem xl245 : ∀ a, a < 245 → z_P a := lt_s (p := z_P) xl244 xs244
theorem xl246 : ∀ a, a < 246 → z_P a := lt_s (p := z_P) xl245 xs245
theorem xl247 : ∀ a, a < 247 → z_P a := lt_s (p := z_P) xl246 xs246
theorem xl248 : ∀ a, a < 248 → z_P a := lt_s (p := z_P) xl247 xs247
theorem pg_big {y : Nat} (h : 248 ≤ y) : z_pg y = fun _ => z_dead := by
  unfold z_pg
  rw [List.getD_eq_getElem?_getD, List.getElem?_eq_none (by exact h)]
  rfl
theorem hc_0 (l : Launch) (G : z_G) : z_HC l G 0 z_tb (fun _ _ _ => none) := ⟨fun _ _ _ _ _ h => (by cases h), fun _ _ _ _ _ _ _ h => (by cases h)⟩
theorem pg_tame (y : Nat) : z_tameM (z_pg y) := by
  rcases Nat.lt_or_ge y 248 with h | h
  · obtain ⟨bp, ini, -, -, -, hM⟩ := xl248 y h launch0 (fun _ => 0, fun _ _ => 0, fun _ => 0, fun _ => 0) 0 _ (hc_0 _ _)
    exact sm_tame hM
  · rw [pg_big h]
    exact fun b => ⟨fun o ho => (by cases ho), tz_none⟩
theorem HC_all (l : Launch) (G : z_G) : ∀ d, z_HC l G d z_tb (z_D z_pg z_nl d)
  | 0 => hc_0 l G
  | d + 1 => by
    have ih := HC_all l G d
    refine ⟨z_D_mono pg_tame (d + 1), fun y as σ σf r φ sz h => ?_⟩
    have h : gd ((z_arg as).length ≤ z_nl y) (E (z_pg y) (z_D z_pg z_nl d) 0 (z_pad (z_nl y) (z_arg as)) [] σ) = some (σf, r) := h
    obtain ⟨hlen, h⟩ := v_gd h
    rcases Nat.lt_or_ge y 248 with hy | hy
    · obtain ⟨bp, ini, h0, hpl, hin, hM⟩ := xl248 y hy l G d _ ih
      exact met_of (yn := (z_tb y).1) (cc := (z_tb y).2.1) (nL := (z_tb y).2.2.1) (rt := (z_tb y).2.2.2) hpl rfl hin ih.1 hM h0 hlen h
    · rw [pg_big hy, E_fix (fun b => ⟨fun o ho => (by cases ho), tz_none⟩) ih.1] at h
      cases h
